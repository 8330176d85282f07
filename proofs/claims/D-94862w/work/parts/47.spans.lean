/-! THE PLAIN LAW, twenty-ninth part: words as bits: what can be told of some -/
set_option maxRecDepth 100000
def red (K : Nat → Nat) : Nat → Nat → Nat
  | 0, v => v
  | n + 1, v => red K n (if bt v n = 1 then v ^^^ K n else v)
theorem red_succ (K : Nat → Nat) (n v : Nat) : red K (n + 1) v = red K n (if bt v n = 1 then v ^^^ K n else v) := rfl
theorem bt_xor : ∀ a b n, a < 64 → b < 64 → n < 6 → bt (a ^^^ b) n = (bt a n + bt b n) % 2 := by
  have : ∀ a, a < 64 → ∀ b, b < 64 → ∀ n, n < 6 → bt (a ^^^ b) n = (bt a n + bt b n) % 2 := by decide +kernel
  exact fun a b n h1 h2 => this a h1 b h2 n
theorem xor_64 {a b : Nat} (ha : a < 64) (hb : b < 64) : a ^^^ b < 64 := Nat.xor_lt_two_pow (n := 6) ha hb
def TK (K : Nat → Nat) : Prop := ∀ k, k < 6 → K k < 64 ∧ (K k = 0 ∨ (bt (K k) k = 1 ∧ ∀ j, j < 6 → k < j → bt (K k) j = 0))
theorem TK_high {K : Nat → Nat} (h : TK K) {k j : Nat} (hk : k < j) (hj : j < 6) : bt (K k) j = 0 := by
  obtain ⟨_, h2⟩ := h k (by omega)
  rcases h2 with h2 | ⟨_, h2⟩
  · rw [h2]
    exact bt_zero j
  · exact h2 j hj hk
theorem red_lt {K : Nat → Nat} (h : TK K) : ∀ n v, n ≤ 6 → v < 64 → red K n v < 64
  | 0, v, _, hv => hv
  | n + 1, v, hn, hv => by
    unfold red
    refine red_lt h n _ (by omega) ?_
    split
    · exact xor_64 hv (h n (by omega)).1
    · exact hv
theorem red_xor {K : Nat → Nat} (h : TK K) : ∀ n u v, n ≤ 6 → u < 64 → v < 64 → red K n (u ^^^ v) = red K n u ^^^ red K n v
  | 0, u, v, _, _, _ => rfl
  | n + 1, u, v, hn, hu, hv => by
    have hK := (h n (by omega)).1
    have e : (if bt (u ^^^ v) n = 1 then (u ^^^ v) ^^^ K n else u ^^^ v) = (if bt u n = 1 then u ^^^ K n else u) ^^^ (if bt v n = 1 then v ^^^ K n else v) := by
      rw [bt_xor u v n hu hv (by omega)]
      have h1 := bt_lt u n
      have h2 := bt_lt v n
      by_cases c1 : bt u n = 1
      · by_cases c2 : bt v n = 1
        · rw [if_neg (by omega), if_pos c1, if_pos c2, Nat.xor_assoc u, ← Nat.xor_assoc (K n) v, Nat.xor_comm (K n) v, Nat.xor_assoc v, Nat.xor_self, Nat.xor_zero]
        · rw [if_pos (by omega), if_pos c1, if_neg c2, Nat.xor_assoc, Nat.xor_comm v, ← Nat.xor_assoc]
      · by_cases c2 : bt v n = 1
        · rw [if_pos (by omega), if_neg c1, if_pos c2, Nat.xor_assoc]
        · rw [if_neg (by omega), if_neg c1, if_neg c2]
    show red K n _ = red K n _ ^^^ red K n _
    rw [e]
    refine red_xor h n _ _ (by omega) ?_ ?_
    · split
      · exact xor_64 hu hK
      · exact hu
    · split
      · exact xor_64 hv hK
      · exact hv
theorem red_high {K : Nat → Nat} (h : TK K) : ∀ n v j, n ≤ 6 → v < 64 → n ≤ j → j < 6 → bt (red K n v) j = bt v j
  | 0, v, j, _, _, _, _ => rfl
  | n + 1, v, j, hn, hv, hj, hj6 => by
    have hK := (h n (by omega)).1
    unfold red
    by_cases c : bt v n = 1
    · rw [if_pos c, red_high h n _ j (by omega) (xor_64 hv hK) (by omega) hj6, bt_xor v (K n) j hv hK hj6, TK_high h (by omega) hj6]
      have := bt_lt v j
      omega
    · rw [if_neg c, red_high h n v j (by omega) hv (by omega) hj6]
theorem red_done {K : Nat → Nat} (h : TK K) : ∀ n v j, n ≤ 6 → v < 64 → j < n → K j ≠ 0 → bt (red K n v) j = 0
  | 0, _, _, _, _, hj, _ => absurd hj (Nat.not_lt_zero _)
  | n + 1, v, j, hn, hv, hj, hne => by
    have hK := h n (by omega)
    have hv' : (if bt v n = 1 then v ^^^ K n else v) < 64 := by
      split
      · exact xor_64 hv hK.1
      · exact hv
    unfold red
    by_cases e : j = n
    · subst e
      rw [red_high h j _ j (by omega) hv' (Nat.le_refl _) (by omega)]
      have hb := bt_lt v j
      by_cases c : bt v j = 1
      · rw [if_pos c, bt_xor v (K j) j hv hK.1 (by omega)]
        rcases hK.2 with h2 | ⟨h2, _⟩
        · exact absurd h2 hne
        · omega
      · rw [if_neg c]
        omega
    · exact red_done h n _ j (by omega) hv' (by omega) hne
theorem red_fix {K : Nat → Nat} : ∀ n v, (∀ j, j < n → K j ≠ 0 → bt v j = 0) → red K n v = v
  | 0, v, _ => rfl
  | n + 1, v, h => by
    have e : (if bt v n = 1 then v ^^^ K n else v) = v := by
      by_cases c : bt v n = 1
      · have : K n = 0 := Classical.byContradiction (fun hh => by have := h n (by omega) hh; omega)
        rw [if_pos c, this, Nat.xor_zero]
      · rw [if_neg c]
    unfold red
    rw [e]
    exact red_fix n v (fun j hj => h j (by omega))
theorem red_upd {K : Nat → Nat} {p w : Nat} : ∀ n v, n ≤ p → red (upN K p w) n v = red K n v
  | 0, v, _ => rfl
  | n + 1, v, h => by
    unfold red
    rw [show upN K p w n = K n by unfold upN; rw [if_neg (by omega)]]
    exact red_upd n _ (by omega)
theorem TK_upd {K : Nat → Nat} (h : TK K) {p w : Nat} (hw : w < 64) (h1 : bt w p = 1) (h2 : ∀ j, j < 6 → p < j → bt w j = 0) : TK (upN K p w) := by
  intro k hk
  unfold upN
  by_cases e : k = p
  · subst e
    rw [if_pos rfl]
    exact ⟨hw, Or.inr ⟨h1, h2⟩⟩
  · rw [if_neg e]
    exact h k hk
/-- high zeros: nothing to do there -/
theorem red_skip {K : Nat → Nat} {p w : Nat} (h0 : K p = 0) : ∀ n, p + 1 ≤ n → n ≤ 6 → (∀ j, j < 6 → p < j → bt w j = 0) → red K n w = red K p w
  | 0, h, _, _ => absurd h (Nat.not_succ_le_zero _)
  | n + 1, h, hn, hw => by
    rw [red_succ]
    by_cases e : n = p
    · subst e
      rw [h0]
      have : (if bt w n = 1 then w ^^^ 0 else w) = w := by
        split
        · exact Nat.xor_zero _
        · rfl
      rw [this]
    · rw [if_neg (by rw [hw n (by omega) (by omega)]; omega)]
      exact red_skip h0 n (by omega) (by omega) hw
theorem red_piv {K : Nat → Nat} (h : TK K) {p w : Nat} (hp : p < 6) (h0 : K p = 0) (hw : w < 64) (hb : ∀ j, j < 6 → p < j → bt w j = 0) : ∀ n u, p + 1 ≤ n → n ≤ 6 → u < 64 → red (upN K p w) n u = if bt (red K n u) p = 1 then red K n u ^^^ red K p w else red K n u
  | 0, u, hn, _, _ => absurd hn (Nat.not_succ_le_zero _)
  | n + 1, u, hn, hn6, hu => by
    by_cases e : n = p
    · subst e
      have e1 : red K (n + 1) u = red K n u := by
        rw [red_succ, h0]
        have : (if bt u n = 1 then u ^^^ 0 else u) = u := by
          split
          · exact Nat.xor_zero _
          · rfl
        rw [this]
      rw [e1, red_high h n u n (by omega) hu (Nat.le_refl _) hp]
      show red (upN K n w) n (if bt u n = 1 then u ^^^ upN K n w n else u) = _
      rw [show upN K n w n = w by simp [upN], red_upd n _ (Nat.le_refl _)]
      by_cases c : bt u n = 1
      · rw [if_pos c, if_pos c, red_xor h n u w (by omega) hu hw]
      · rw [if_neg c, if_neg c]
    · have hK := (h n (by omega)).1
      show red (upN K p w) n (if bt u n = 1 then u ^^^ upN K p w n else u) = if bt (red K n (if bt u n = 1 then u ^^^ K n else u)) p = 1 then red K n (if bt u n = 1 then u ^^^ K n else u) ^^^ red K p w else red K n (if bt u n = 1 then u ^^^ K n else u)
      rw [show upN K p w n = K n by unfold upN; rw [if_neg e]]
      refine red_piv h hp h0 hw hb n _ (by omega) (by omega) ?_
      split
      · exact xor_64 hu hK
      · exact hu
theorem xor_eq0 {a b : Nat} : a ^^^ b = 0 ↔ a = b := by
  constructor
  · intro h
    have : (a ^^^ b) ^^^ b = b := by rw [h, Nat.zero_xor]
    rw [Nat.xor_assoc, Nat.xor_self, Nat.xor_zero] at this
    exact this
  · intro h
    rw [h, Nat.xor_self]
/-- a new word: what can be told of it and the old ones -/
theorem red_new {K : Nat → Nat} (h : TK K) {p w m : Nat} (hp : p < 6) (h0 : K p = 0) (hw : w < 64) (h1 : bt w p = 1) (hb : ∀ j, j < 6 → p < j → bt w j = 0) (hm : m < 64) (he : red K 6 m = red K p w) (u : Nat) (hu : u < 64) : red (upN K p w) 6 u = 0 ↔ (red K 6 u = 0 ∨ red K 6 (u ^^^ m) = 0) := by
  rw [red_piv h hp h0 hw hb 6 u (by omega) (Nat.le_refl _) hu, red_xor h 6 u m (Nat.le_refl _) hu hm, he, xor_eq0]
  have hwp : bt (red K p w) p = 1 := by rw [red_high h p w p (by omega) hw (Nat.le_refl _) hp]; exact h1
  by_cases c : bt (red K 6 u) p = 1
  · rw [if_pos c, xor_eq0]
    constructor
    · exact Or.inr
    · rintro (h2 | h2)
      · rw [h2, bt_zero] at c
        omega
      · exact h2
  · rw [if_neg c]
    constructor
    · exact Or.inl
    · rintro (h2 | h2)
      · exact h2
      · rw [h2] at c
        exact absurd hwp c
theorem red_same {K : Nat → Nat} (h : TK K) {m : Nat} (hm : m < 64) (he : red K 6 m = 0) (u : Nat) (hu : u < 64) : red K 6 u = 0 ↔ (red K 6 u = 0 ∨ red K 6 (u ^^^ m) = 0) := by
  rw [red_xor h 6 u m (Nat.le_refl _) hu hm, he, Nat.xor_zero]
  exact ⟨Or.inl, fun h => h.elim id id⟩
/-- x's way -/
def top (w : Nat) : Nat := if 32 ≤ w then 5 else if 16 ≤ w then 4 else if 8 ≤ w then 3 else if 4 ≤ w then 2 else if 2 ≤ w then 1 else 0
theorem top_ok : ∀ w, w < 64 → w ≠ 0 → top w < 6 ∧ bt w (top w) = 1 ∧ ∀ j, j < 6 → top w < j → bt w j = 0 := by decide +kernel
def addX (K : Nat → Nat) (m : Nat) : Nat → Nat := if red K 6 m = 0 then K else upN K (top (red K 6 m)) (red K 6 m)
theorem addX_ok {K : Nat → Nat} (h : TK K) {m : Nat} (hm : m < 64) : TK (addX K m) ∧ ∀ u, u < 64 → (red (addX K m) 6 u = 0 ↔ (red K 6 u = 0 ∨ red K 6 (u ^^^ m) = 0)) := by
  unfold addX
  by_cases c : red K 6 m = 0
  · rw [if_pos c]
    exact ⟨h, fun u hu => red_same h hm c u hu⟩
  · rw [if_neg c]
    have hw := red_lt h 6 m (Nat.le_refl _) hm
    obtain ⟨t1, t2, t3⟩ := top_ok _ hw c
    have h0 : K (top (red K 6 m)) = 0 := Classical.byContradiction (fun hh => by
      have := red_done h 6 m _ (Nat.le_refl _) hm t1 hh
      omega)
    refine ⟨TK_upd h hw t2 t3, fun u hu => red_new h t1 h0 hw t2 t3 hm ?_ u hu⟩
    exact (red_fix _ _ (fun j hj hne => red_done h 6 m j (Nat.le_refl _) hm (by omega) hne)).symm
/-- the model's way -/
def addM (K : Nat → Nat) : Nat → Nat → (Nat → Nat)
  | 0, _ => K
  | n + 1, v => if bt v n = 1 then (if K n = 0 then upN K n v else addM K n (v ^^^ K n)) else addM K n v
theorem addM_ok {K : Nat → Nat} (h : TK K) {m : Nat} (hm : m < 64) : ∀ n v, n ≤ 6 → v < 64 → (∀ j, j < 6 → n ≤ j → bt v j = 0) → red K n v = red K 6 m → TK (addM K n v) ∧ ∀ u, u < 64 → (red (addM K n v) 6 u = 0 ↔ (red K 6 u = 0 ∨ red K 6 (u ^^^ m) = 0))
  | 0, v, _, hv, hb, he => by
    have v0 : v = 0 := by
      refine bits_ext' hv (by decide) (fun s hs => ?_)
      rw [bt_zero, hb s hs (Nat.zero_le _)]
    have e0 : red K 6 m = 0 := by rw [← he, v0]; rfl
    exact ⟨h, fun u hu => red_same h hm e0 u hu⟩
  | n + 1, v, hn, hv, hb, he => by
    have hK := h n (by omega)
    unfold addM
    by_cases c : bt v n = 1
    · rw [if_pos c]
      by_cases c0 : K n = 0
      · rw [if_pos c0]
        refine ⟨TK_upd h hv c (fun j hj hnj => hb j hj (by omega)), fun u hu => red_new h (by omega) c0 hv c (fun j hj hnj => hb j hj (by omega)) hm ?_ u hu⟩
        rw [← he, red_succ, if_pos c, c0, Nat.xor_zero]
      · rw [if_neg c0]
        have e : red K n (v ^^^ K n) = red K 6 m := by
          rw [← he, red_succ, if_pos c]
        refine addM_ok h hm n _ (by omega) (xor_64 hv hK.1) (fun j hj hnj => ?_) e
        rw [bt_xor v (K n) j hv hK.1 hj]
        by_cases ej : j = n
        · subst ej
          rcases hK.2 with h2 | ⟨h2, _⟩
          · exact absurd h2 c0
          · omega
        · rw [hb j hj (by omega), TK_high h (by omega) hj]
    · rw [if_neg c]
      have e : red K n v = red K 6 m := by
        rw [← he]
        show _ = red K n (if bt v n = 1 then v ^^^ K n else v)
        rw [if_neg c]
      refine addM_ok h hm n v (by omega) hv (fun j hj hnj => ?_) e
      by_cases ej : j = n
      · subst ej
        have := bt_lt v j
        omega
      · exact hb j hj (by omega)
theorem TK_0 : TK (fun _ => 0) := fun k _ => ⟨Nat.zero_lt_succ _, Or.inl rfl⟩
/-- the words of a set, n snails looked at: x's, the model's -/
def kX (f : Nat → Nat) (set : Nat) : Nat → (Nat → Nat)
  | 0 => fun _ => 0
  | n + 1 => if bt set n = 1 then addX (kX f set n) (f n) else kX f set n
def kM (f : Nat → Nat) (set : Nat) : Nat → (Nat → Nat)
  | 0 => fun _ => 0
  | n + 1 => if bt set n = 1 then addM (kM f set n) 6 (f n) else kM f set n
theorem kX_ok {f : Nat → Nat} {set : Nat} : ∀ n, (∀ i, i < n → f i < 64) → TK (kX f set n)
  | 0, _ => TK_0
  | n + 1, h => by
    unfold kX
    split
    · exact (addX_ok (kX_ok n (fun i hi => h i (by omega))) (h n (by omega))).1
    · exact kX_ok n (fun i hi => h i (by omega))
theorem k_both {f : Nat → Nat} {set : Nat} : ∀ n, (∀ i, i < n → f i < 64) → TK (kM f set n) ∧ ∀ u, u < 64 → (red (kX f set n) 6 u = 0 ↔ red (kM f set n) 6 u = 0)
  | 0, _ => ⟨TK_0, fun _ _ => Iff.rfl⟩
  | n + 1, h => by
    have hf := h n (by omega)
    have hX := kX_ok (set := set) n (fun i hi => h i (by omega))
    obtain ⟨hM, hu⟩ := k_both (set := set) n (fun i hi => h i (by omega))
    unfold kX kM
    by_cases c : bt set n = 1
    · rw [if_pos c, if_pos c]
      obtain ⟨_, a2⟩ := addX_ok hX hf
      obtain ⟨b1, b2⟩ := addM_ok hM hf 6 (f n) (Nat.le_refl _) hf (fun j h1 h2 => by omega) rfl
      refine ⟨b1, fun u hu' => ?_⟩
      rw [a2 u hu', b2 u hu', hu u hu', hu _ (xor_64 hu' hf)]
    · rw [if_neg c, if_neg c]
      exact ⟨hM, hu⟩
/-- the first n words are told -/
def tl (K : Nat → Nat) : Nat → Bool
  | 0 => true
  | n + 1 => tl K n && (red K 6 (2 ^ n) == 0)
theorem tl_both {K1 K2 : Nat → Nat} (h : ∀ u, u < 64 → (red K1 6 u = 0 ↔ red K2 6 u = 0)) : ∀ n, n ≤ 6 → tl K1 n = tl K2 n
  | 0, _ => rfl
  | n + 1, hn => by
    unfold tl
    have l : ∀ s, s < 6 → 2 ^ s < 64 := by decide
    have := h (2 ^ n) (l n (by omega))
    rw [tl_both h n (by omega)]
    congr 1
    rw [Bool.eq_iff_iff, beq_iff_eq, beq_iff_eq]
    exact this
/-- read, of a set -/
def rd (t : gT) (set : Nat) : Bool := tl (kX (fun s => t 4 (6 * s + 5)) set (t 0 0)) (t 7 0)
theorem rd_M {t : gT} (hg : tG t) (set : Nat) : tl (kM (fun s => t 4 (6 * s + 5)) set (t 0 0)) (t 7 0) = rd t set := by
  have h7 := hg.2.2.2.2.2.2.2.2.1
  exact (tl_both (k_both (t 0 0) (fun i hi => by have := (hg.2.2.2.2.2.1 i hi).2.2.2.2.2.2.2; show t 4 (6 * i + 5) < 64; omega)).2 _ (by omega)).symm
