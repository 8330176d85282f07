/-! THE PLAIN LAW, tenth part: what a law tells, a garden, how snails creep: at the level of Nat. A plan's hour is a spot + 1, 0 none; came is a minute + 1, 0 not yet. -/
set_option maxRecDepth 100000
def aI (a b : Nat) : Nat := if b ≤ a then a - b else b - a
def apt (a b : Nat) : Nat := aI (a % 12) (b % 12) + aI (a / 12) (b / 12)
def lightA (t : gT) (c sp : Nat) : Nat := if sp = 0 then 0 else t 7 1 - apt c (t 5 (sp - 1))
def pc (v : Nat) : Nat := v % 2 + v / 2 % 2 + v / 4 % 2 + v / 8 % 2 + v / 16 % 2 + v / 32 % 2
def bt (v s : Nat) : Nat := v / 2 ^ s % 2
def clr (v s : Nat) : Nat := if bt v s = 1 then v - 2 ^ s else v
def stb (v s : Nat) : Nat := if bt v s = 1 then v else v + 2 ^ s
/-- what a law tells: head, the ten values -/
abbrev gF : Type := Nat → (Nat → Nat) → Option Int
def gFok (F : gF) : Prop := (∀ hd v z, F hd v = some z → -1000000000 ≤ z ∧ z ≤ 1000000000) ∧ (∀ v z, F 2 v = some z → z = 1)
def lO : Option Int → Int64
  | none => -4000000000
  | some z => Int64.ofInt z
def vals (t g : gT) (s c h sp : Nat) : Nat → Nat
  | 0 => s
  | 1 => t 4 (6 * s + 3)
  | 2 => t 3 c
  | 3 => lightA t c sp
  | 4 => pc (clr (g 4 c) s)
  | 5 => bt (g 4 c) s
  | 6 => if g 1 s = c then 1 else 0
  | 7 => h
  | 8 => c % 12
  | 9 => c / 12
  | _ => 0
def lure (t : gT) (F : gF) (g : gT) (s c h sp : Nat) : Int := match F 0 (vals t g s c h sp) with
  | none => ((t 3 c + lightA t c sp : Nat) : Int)
  | some z => z
/-- the four neighbours, in the order they are tried -/
def nbs (c : Nat) : List Nat := (if 12 ≤ c then [c - 12] else []) ++ (if c % 12 < 11 then [c + 1] else []) ++ (if c < 84 then [c + 12] else []) ++ (if 0 < c % 12 then [c - 1] else [])
def bst (t : gT) (F : gF) (g : gT) (s h sp : Nat) (a : Nat × Int) (c : Nat) : Nat × Int := if t 9 c = 0 ∧ a.2 < lure t F g s c h sp then (c, lure t F g s c h sp) else a
def best (t : gT) (F : gF) (g : gT) (s h sp : Nat) : Nat := ((nbs (g 1 s)).foldl (bst t F g s h sp) (g 1 s, lure t F g s (g 1 s) h sp)).1
/-- one snail's step in minute m -/
def goal (t : gT) (F : gF) (g : gT) (s m sp : Nat) : Nat := if (F 2 (vals t g s (g 1 s) (m / 12) sp)) = none then best t F g s (m / 12) sp else g 1 s
def creep (t : gT) (F : gF) (g : gT) (s m sp : Nat) : gT := fun k i =>
  if k = 1 ∧ i = s then goal t F g s m sp
  else if k = 2 ∧ i = s then (if goal t F g s m sp = t 4 (6 * s + 1) then m + 2 else g 2 s)
  else if k = 3 ∧ i = s then (if goal t F g s m sp = g 1 s then g 3 s + 1 else g 3 s)
  else if k = 4 ∧ i = goal t F g s m sp then stb (g 4 i) s
  else g k i
abbrev goes (t g : gT) (s m : Nat) : Prop := g 2 s = 0 ∧ bt (g 5 0) s = 0 ∧ (m + 1) % t 4 (6 * s + 2) = 0
def stepS (t : gT) (F : gF) (m sp : Nat) (g : gT) (s : Nat) : gT := if goes t g s m then creep t F g s m sp else g
/-- the first n snails in minute m; minutes from a on, n of them -/
def minuteN (t : gT) (F : gF) (m sp : Nat) (g : gT) : Nat → gT
  | 0 => g
  | n + 1 => stepS t F m sp (minuteN t F m sp g n) n
def minute (t : gT) (F : gF) (m sp : Nat) (g : gT) : gT := minuteN t F m sp g (t 0 0)
def mins (t : gT) (F : gF) (a sp : Nat) (g : gT) : Nat → gT
  | 0 => g
  | n + 1 => minute t F (a + n) sp (mins t F a sp g n)
def hour (t : gT) (F : gF) (h sp : Nat) (g : gT) : gT := mins t F (12 * h) sp g 12
/-- the first n snails laid at dawn -/
def dawnN (t : gT) : Nat → gT
  | 0 => fun _ _ => 0
  | n + 1 => fun k i =>
    if k = 1 ∧ i = n then t 4 (6 * n)
    else if k = 2 ∧ i = n then (if t 4 (6 * n) = t 4 (6 * n + 1) then 1 else 0)
    else if k = 3 ∧ i = n then 0
    else if k = 4 ∧ i = t 4 (6 * n) then stb (dawnN t n 4 i) n
    else dawnN t n k i
def dawn (t : gT) : gT := dawnN t (t 0 0)
/-- ranges of a garden -/
def gG (t g : gT) : Prop := (∀ s, s < t 0 0 → g 1 s < 96) ∧ (∀ s, s < t 0 0 → g 2 s ≤ 61) ∧ (∀ c, c < 96 → g 4 c < 64) ∧ g 5 0 < 64
theorem nb_lt {c : Nat} (hc : c < 96) : ∀ d, d ∈ nbs c → d < 96 := by
  intro d hd
  unfold nbs at hd
  simp only [List.mem_append] at hd
  rcases hd with ((hd | hd) | hd) | hd <;> split at hd <;> simp at hd <;> omega
theorem bst_lt {t : gT} {F : gF} {g : gT} {s h sp : Nat} : ∀ (l : List Nat) (a : Nat × Int), a.1 < 96 → (∀ d, d ∈ l → d < 96) → (l.foldl (bst t F g s h sp) a).1 < 96
  | [], a, ha, _ => ha
  | d :: l, a, ha, hl => by
    refine bst_lt l _ ?_ (fun d hd => hl d (List.mem_cons_of_mem _ hd))
    unfold bst
    split
    · exact hl d List.mem_cons_self
    · exact ha
theorem best_lt {t : gT} {F : gF} {g : gT} {s h sp : Nat} (hs : g 1 s < 96) : best t F g s h sp < 96 := bst_lt _ _ hs (nb_lt hs)
theorem goal_lt {t : gT} {F : gF} {g : gT} {s m sp : Nat} (hs : g 1 s < 96) : goal t F g s m sp < 96 := by
  unfold goal
  split
  · exact best_lt hs
  · exact hs
theorem stb_lt : ∀ b s, b < 64 → s < 6 → stb b s < 64 := by
  have : ∀ b, b < 64 → ∀ s, s < 6 → stb b s < 64 := by decide +kernel
  exact fun b s h1 h2 => this b h1 s h2
theorem gG_creep {t : gT} {F : gF} {g : gT} {s m sp : Nat} (hg : tG t) (h : gG t g) (hs : s < t 0 0) (hm : m < 60) : gG t (creep t F g s m sp) := by
  obtain ⟨h1, h2, h4, h5⟩ := h
  have h6 := hg.1
  refine ⟨fun i hi => ?_, fun i hi => ?_, fun c hc => ?_, ?_⟩
  · unfold creep
    by_cases e : i = s
    · subst e
      simpa using goal_lt (h1 i hi)
    · simpa [e] using h1 i hi
  · unfold creep
    by_cases e : i = s
    · subst e
      simp
      have := h2 i hi
      split <;> omega
    · simpa [e] using h2 i hi
  · unfold creep
    simp
    split
    · exact stb_lt _ _ (h4 c hc) (by omega)
    · exact h4 c hc
  · simpa [creep] using h5
theorem gG_minuteN {t : gT} {F : gF} {g : gT} {m sp : Nat} (hg : tG t) (h : gG t g) (hm : m < 60) : ∀ n, n ≤ t 0 0 → gG t (minuteN t F m sp g n)
  | 0, _ => h
  | n + 1, hn => by
    have := gG_minuteN (F := F) (sp := sp) hg h hm n (by omega)
    unfold minuteN stepS
    split
    · exact gG_creep hg this (by omega) hm
    · exact this
theorem gG_minute {t : gT} {F : gF} {g : gT} {m sp : Nat} (hg : tG t) (h : gG t g) (hm : m < 60) : gG t (minute t F m sp g) := gG_minuteN hg h hm _ (Nat.le_refl _)
theorem gG_mins {t : gT} {F : gF} {g : gT} {a sp : Nat} (hg : tG t) (h : gG t g) : ∀ n, a + n ≤ 60 → gG t (mins t F a sp g n)
  | 0, _ => h
  | n + 1, hn => gG_minute hg (gG_mins hg h n (by omega)) (by omega)
theorem gG_hour {t : gT} {F : gF} {g : gT} {h0 sp : Nat} (hg : tG t) (h : gG t g) (hh : h0 < 5) : gG t (hour t F h0 sp g) := gG_mins hg h 12 (by omega)
theorem dawnN_4 {t : gT} (hg : tG t) : ∀ n, n ≤ t 0 0 → ∀ c, dawnN t n 4 c < 64
  | 0, _, _ => by simp [dawnN]
  | n + 1, hn, c => by
    have h6 := hg.1
    have := dawnN_4 hg n (by omega) c
    unfold dawnN
    simp
    split
    · exact stb_lt _ _ this (by omega)
    · exact this
theorem gG_dawn {t : gT} (hg : tG t) : ∀ n, n ≤ t 0 0 → (∀ s, s < n → dawnN t n 1 s < 96 ∧ dawnN t n 2 s ≤ 1) ∧ dawnN t n 5 0 = 0
  | 0, _ => ⟨fun s hs => absurd hs (Nat.not_lt_zero _), rfl⟩
  | n + 1, hn => by
    obtain ⟨h1, h2⟩ := gG_dawn hg n (by omega)
    refine ⟨fun s hs => ?_, by simpa [dawnN] using h2⟩
    by_cases e : s = n
    · subst e
      have := (hg.2.2.2.2.2.1 s (by omega)).1
      simp [dawnN]
      refine ⟨this, ?_⟩
      split <;> omega
    · simpa [dawnN, e] using h1 s (by omega)
theorem gG_dawn' {t : gT} (hg : tG t) : gG t (dawn t) := by
  obtain ⟨h1, h2⟩ := gG_dawn hg (t 0 0) (Nat.le_refl _)
  exact ⟨fun s hs => (h1 s hs).1, fun s hs => by have : dawn t 2 s ≤ 1 := (h1 s hs).2; omega, fun c _ => dawnN_4 hg _ (Nat.le_refl _) c, by show dawnN t (t 0 0) 5 0 < 64; rw [h2]; decide⟩
/-! numbers -/
theorem pn_div {a b : Nat} (ha : a < 2 ^ 31) (hb : b < 2 ^ 31) : nI a / nI b = nI (a / b) := by
  have hq : a / b ≤ a := Nat.div_le_self a b
  rw [pn_eq, Int32.toInt_div, pn_int ha, pn_int hb, pn_int (by omega), ← Int.ofNat_tdiv]
  generalize a / b = q at hq
  exact Int.bmod_eq_of_le (by omega) (by omega)
theorem pn_rem {a b : Nat} (ha : a < 2 ^ 31) (hb : b < 2 ^ 31) : nI a - nI a / nI b * nI b = nI (a % b) := by
  have h1 : a / b * b ≤ a := Nat.div_mul_le_self a b
  rw [pn_div ha hb, pn_mul, pn_sub h1]
  congr 1
  have := Nat.div_add_mod a b
  have e : b * (a / b) = a / b * b := Nat.mul_comm _ _
  omega
theorem aI_12 : ∀ x, x < 12 → ∀ y, y < 12 → (if 0 ≤ nI x - nI y then nI x - nI y else 0 - (nI x - nI y)) = nI (aI x y) := by decide +kernel
theorem glow_lt : ∀ g, g < 21 → ∀ r, r < 19 → (if (0 : Int32) < nI g - nI r then nI g - nI r else 0) = nI (g - r) := by decide +kernel
theorem apt_lt {a b : Nat} (ha : a < 96) (hb : b < 96) : apt a b ≤ 18 := by
  unfold apt aI
  split <;> split <;> omega
theorem bits_clr : ∀ b, b < 64 → ∀ s, s < 6 → (nI b &&& ((1 <<< (nI s &&& 31)) ^^^ (-1))) = nI (clr b s) := by decide +kernel
theorem bits_bt : ∀ b, b < 64 → ∀ s, s < 6 → ((nI b >>> (nI s &&& 31)) &&& 1) = nI (bt b s) := by decide +kernel
theorem bits_stb : ∀ b, b < 64 → ∀ s, s < 6 → (nI b ||| (1 <<< (nI s &&& 31))) = nI (stb b s) := by decide +kernel
theorem clr_lt : ∀ b s, b < 64 → clr b s < 64 := by
  intro b s h
  unfold clr
  split
  · exact Nat.lt_of_le_of_lt (Nat.sub_le _ _) h
  · exact h
theorem bt_lt (b s : Nat) : bt b s < 2 := Nat.mod_lt _ (by decide)
theorem pc_lt (b : Nat) : pc b ≤ 6 := by
  unfold pc
  omega
theorem wideI (z : Int) (h1 : -2000000000 ≤ z) (h2 : z ≤ 2000000000) : (Int64.ofInt z).toInt = z := Int64.toInt_ofInt_of_le (by omega) (by omega)
theorem lI_lt {a b : Int} (h1 : -2000000000 ≤ a) (h2 : a ≤ 2000000000) (h3 : -2000000000 ≤ b) (h4 : b ≤ 2000000000) : Int64.ofInt a < Int64.ofInt b ↔ a < b := by rw [Int64.lt_iff_toInt_lt, wideI a h1 h2, wideI b h3 h4]
theorem lO_none {o : Option Int} (h : ∀ z, o = some z → -1000000000 ≤ z ∧ z ≤ 1000000000) : lg_cmp (lO o) (-4000000000) = 0 ↔ o = none := by
  rw [lc_eq]
  cases o with
  | none => simp [lO]
  | some z =>
    obtain ⟨h1, h2⟩ := h z rfl
    simp only [lO, reduceCtorEq, iff_false]
    intro e
    have := congrArg Int64.toInt e
    rw [wideI z (by omega) (by omega)] at this
    have h0 : (-4000000000 : Int64).toInt = -4000000000 := rfl
    omega
theorem lN_ofInt {n : Nat} (h : n < 2 ^ 31) : (nI n).toInt64 = Int64.ofInt (n : Int) := by
  rw [lN_wide h, ← Int64.toInt_inj, lN_int (by omega), Int64.toInt_ofInt_of_le (by omega) (by omega)]
/-! what holds of every garden of a day -/
def gI (t g : gT) : Prop := ∀ s, s < t 0 0 → (g 2 s = 0 → g 1 s ≠ t 4 (6 * s + 1)) ∧ bt (g 4 (g 1 s)) s = 1
theorem bt_stb : ∀ b s i, b < 64 → s < 6 → i < 6 → bt (stb b s) i = if i = s then 1 else bt b i := by
  have : ∀ b, b < 64 → ∀ s, s < 6 → ∀ i, i < 6 → bt (stb b s) i = if i = s then 1 else bt b i := by decide +kernel
  exact fun b s i h1 h2 h3 => this b h1 s h2 i h3
theorem gI_creep {t : gT} {F : gF} {g : gT} {s m sp : Nat} (hg : tG t) (h : gG t g) (hi : gI t g) (hs : s < t 0 0) (h2 : g 2 s = 0) : gI t (creep t F g s m sp) := by
  have h6 := hg.1
  intro i hi'
  have hv := goal_lt (t := t) (F := F) (g := g) (s := s) (m := m) (sp := sp) (h.1 s hs)
  obtain ⟨a1, a2⟩ := hi i hi'
  unfold creep
  by_cases e : i = s
  · subst e
    simp
    refine ⟨fun hh e => by rw [if_pos e] at hh; omega, ?_⟩
    rw [bt_stb _ _ _ (h.2.2.1 _ hv) (by omega) (by omega), if_pos rfl]
  · simp [e]
    refine ⟨a1, ?_⟩
    split
    · rw [bt_stb _ _ _ (h.2.2.1 _ (h.1 i hi')) (by omega) (by omega), if_neg e]
      exact a2
    · exact a2
theorem gI_minuteN {t : gT} {F : gF} {g : gT} {m sp : Nat} (hg : tG t) (h : gG t g) (hi : gI t g) (hm : m < 60) : ∀ n, n ≤ t 0 0 → gI t (minuteN t F m sp g n)
  | 0, _ => hi
  | n + 1, hn => by
    have h1 := gI_minuteN (F := F) (sp := sp) hg h hi hm n (by omega)
    have h2 := gG_minuteN (F := F) (sp := sp) hg h hm n (by omega)
    unfold minuteN stepS
    split
    · rename_i hh
      exact gI_creep hg h2 h1 (by omega) hh.1
    · exact h1
theorem gI_mins {t : gT} {F : gF} {g : gT} {a sp : Nat} (hg : tG t) (h : gG t g) (hi : gI t g) : ∀ n, a + n ≤ 60 → gI t (mins t F a sp g n)
  | 0, _ => hi
  | n + 1, hn => gI_minuteN hg (gG_mins hg h n (by omega)) (gI_mins hg h hi n (by omega)) (by omega) _ (Nat.le_refl _)
theorem gI_hour {t : gT} {F : gF} {g : gT} {h0 sp : Nat} (hg : tG t) (h : gG t g) (hi : gI t g) (hh : h0 < 5) : gI t (hour t F h0 sp g) := gI_mins hg h hi 12 (by omega)
theorem gI_dawnN {t : gT} (hg : tG t) : ∀ n, n ≤ t 0 0 → ∀ s, s < n → (dawnN t n 2 s = 0 → dawnN t n 1 s ≠ t 4 (6 * s + 1)) ∧ bt (dawnN t n 4 (dawnN t n 1 s)) s = 1
  | 0, _ => fun s hs => absurd hs (Nat.not_lt_zero _)
  | n + 1, hn => by
    have h6 := hg.1
    have ih := gI_dawnN hg n (by omega)
    have d1 : ∀ i, dawnN t (n + 1) 1 i = if i = n then t 4 (6 * n) else dawnN t n 1 i := fun i => by simp [dawnN]
    have d2 : ∀ i, dawnN t (n + 1) 2 i = if i = n then (if t 4 (6 * n) = t 4 (6 * n + 1) then 1 else 0) else dawnN t n 2 i := fun i => by simp [dawnN]
    have d4 : ∀ i, dawnN t (n + 1) 4 i = if i = t 4 (6 * n) then stb (dawnN t n 4 i) n else dawnN t n 4 i := fun i => by simp [dawnN]
    intro s hs
    rw [d2, d1, d4]
    by_cases e : s = n
    · subst e
      rw [if_pos rfl, if_pos rfl, if_pos rfl, bt_stb _ _ _ (dawnN_4 hg s (by omega) _) (by omega) (by omega), if_pos rfl]
      exact ⟨fun hh e => by rw [if_pos e] at hh; omega, rfl⟩
    · obtain ⟨a1, a2⟩ := ih s (by omega)
      rw [if_neg e, if_neg e]
      refine ⟨a1, ?_⟩
      split
      · rw [bt_stb _ _ _ (dawnN_4 hg n (by omega) _) (by omega) (by omega), if_neg e]
        exact a2
      · exact a2
theorem gI_dawn {t : gT} (hg : tG t) : gI t (dawn t) := gI_dawnN hg _ (Nat.le_refl _)
