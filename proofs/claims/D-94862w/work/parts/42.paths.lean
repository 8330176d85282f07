/-! THE PLAIN LAW, twenty-fourth part: ways through sets (bit masks below 64): forward and backward; all rows, one by one -/
set_option maxRecDepth 100000
theorem sms_congr {f g : Nat → Nat} : ∀ n, (∀ i, i < n → f i = g i) → sms f n = sms g n
  | 0, _ => rfl
  | n + 1, e => by
    unfold sms
    rw [sms_congr n (fun i hi => e i (by omega)), e n (by omega)]
theorem sms_zero : ∀ n, sms (fun _ => 0) n = 0
  | 0 => rfl
  | n + 1 => by
    unfold sms
    rw [sms_zero n]
theorem sms_add (f g : Nat → Nat) : ∀ n, sms (fun i => f i + g i) n = sms f n + sms g n
  | 0 => rfl
  | n + 1 => by
    unfold sms
    rw [sms_add f g n]
    omega
theorem sms_swap (f : Nat → Nat → Nat) (m : Nat) : ∀ n, sms (fun i => sms (fun j => f i j) m) n = sms (fun j => sms (fun i => f i j) n) m
  | 0 => by
    simp only [sms]
    exact (sms_zero m).symm
  | n + 1 => by
    show sms (fun i => sms (fun j => f i j) m) n + sms (fun j => f n j) m = _
    rw [sms_swap f m n, ← sms_add]
    rfl
theorem sms_if {c : Prop} [Decidable c] (g : Nat → Nat) (n : Nat) : (if c then sms g n else 0) = sms (fun s => if c then g s else 0) n := by
  by_cases h : c
  · rw [if_pos h]
    exact sms_congr n (fun i _ => (if_pos h).symm)
  · rw [if_neg h]
    rw [sms_congr (g := fun _ => 0) n (fun i _ => if_neg h), sms_zero]
theorem sms_one {f : Nat → Nat} {i0 : Nat} : ∀ n, i0 < n → (∀ i, i < n → i ≠ i0 → f i = 0) → sms f n = f i0
  | 0, h, _ => absurd h (Nat.not_lt_zero _)
  | n + 1, h, e => by
    unfold sms
    by_cases h0 : i0 = n
    · rw [sms_congr (g := fun _ => 0) n (fun i hi => e i (by omega) (by omega)), sms_zero, h0, Nat.zero_add]
    · rw [sms_one n (by omega) (fun i hi => e i (by omega)), e n (by omega) (fun hh => h0 hh.symm), Nat.add_zero]
theorem sms_pos {f : Nat → Nat} {i0 : Nat} : ∀ n, i0 < n → f i0 ≤ sms f n
  | 0, h => absurd h (Nat.not_lt_zero _)
  | n + 1, h => by
    unfold sms
    by_cases h0 : i0 = n
    · rw [h0]
      omega
    · have := sms_pos (f := f) n (show i0 < n by omega)
      omega
/-- the ways of k steps from A to B -/
def NP (f : Nat → Nat → Bool) (n : Nat) : Nat → Nat → Nat → Nat
  | 0, A, B => if A = B then 1 else 0
  | k + 1, A, B => sms (fun s => if f A s = true then NP f n k (stb A s) B else 0) n
theorem clr_stb : ∀ A s, A < 64 → s < 6 → bt A s = 0 → clr (stb A s) s = A ∧ bt (stb A s) s = 1 ∧ stb A s < 64 := by
  have : ∀ A, A < 64 → ∀ s, s < 6 → bt A s = 0 → clr (stb A s) s = A ∧ bt (stb A s) s = 1 ∧ stb A s < 64 := by decide +kernel
  exact fun A s h1 h2 => this A h1 s h2
theorem stb_clr : ∀ B s, B < 64 → s < 6 → bt B s = 1 → stb (clr B s) s = B ∧ bt (clr B s) s = 0 := by
  have : ∀ A, A < 64 → ∀ s, s < 6 → bt A s = 1 → stb (clr A s) s = A ∧ bt (clr A s) s = 0 := by decide +kernel
  exact fun A s h1 h2 => this A h1 s h2
theorem NP_snoc {f : Nat → Nat → Bool} {n : Nat} (hn : n ≤ 6) (hf : ∀ A s, f A s = true → bt A s = 0) : ∀ (k A B : Nat), A < 64 → B < 64 → NP f n (k + 1) A B = sms (fun s => if bt B s = 1 ∧ f (clr B s) s = true then NP f n k A (clr B s) else 0) n
  | 0, A, B, hA, hB => by
    show sms (fun s => if f A s = true then (if stb A s = B then 1 else 0) else 0) n = sms (fun s => if bt B s = 1 ∧ f (clr B s) s = true then (if A = clr B s then 1 else 0) else 0) n
    refine sms_congr n (fun s hs => ?_)
    by_cases c : f A s = true ∧ stb A s = B
    · obtain ⟨c1, c2⟩ := c
      obtain ⟨e1, e2, _⟩ := clr_stb A s hA (by omega) (hf A s c1)
      rw [c2] at e1 e2
      rw [if_pos c1, if_pos c2, if_pos ⟨e2, by rw [e1]; exact c1⟩, if_pos e1.symm]
    · by_cases d : (bt B s = 1 ∧ f (clr B s) s = true) ∧ A = clr B s
      · exfalso
        obtain ⟨⟨d1, d2⟩, d3⟩ := d
        apply c
        rw [d3]
        exact ⟨d2, (stb_clr B s hB (by omega) d1).1⟩
      · have l : (if f A s = true then (if stb A s = B then 1 else 0) else 0) = 0 := by
          by_cases c1 : f A s = true
          · rw [if_pos c1, if_neg (fun h => c ⟨c1, h⟩)]
          · rw [if_neg c1]
        have r : (if bt B s = 1 ∧ f (clr B s) s = true then (if A = clr B s then 1 else 0) else 0) = 0 := by
          by_cases d1 : bt B s = 1 ∧ f (clr B s) s = true
          · rw [if_pos d1, if_neg (fun h => d ⟨d1, h⟩)]
          · rw [if_neg d1]
        rw [l, r]
  | k + 1, A, B, hA, hB => by
    show sms (fun s => if f A s = true then NP f n (k + 1) (stb A s) B else 0) n = _
    have e1 : ∀ s, s < n → (if f A s = true then NP f n (k + 1) (stb A s) B else 0) = sms (fun s' => if f A s = true ∧ (bt B s' = 1 ∧ f (clr B s') s' = true) then NP f n k (stb A s) (clr B s') else 0) n := by
      intro s hs
      by_cases c : f A s = true
      · rw [if_pos c, NP_snoc hn hf k (stb A s) B (clr_stb A s hA (by omega) (hf A s c)).2.2 hB]
        refine sms_congr n (fun s' _ => ?_)
        by_cases d : bt B s' = 1 ∧ f (clr B s') s' = true
        · rw [if_pos d, if_pos ⟨c, d⟩]
        · rw [if_neg d, if_neg (fun h => d h.2)]
      · rw [if_neg c, sms_congr (g := fun _ => 0) n (fun s' _ => if_neg (fun h => c h.1)), sms_zero]
    rw [sms_congr n e1, sms_swap]
    refine sms_congr n (fun s' _ => ?_)
    by_cases d : bt B s' = 1 ∧ f (clr B s') s' = true
    · rw [if_pos d]
      refine sms_congr n (fun s _ => ?_)
      by_cases c : f A s = true
      · rw [if_pos ⟨c, d⟩, if_pos c]
      · rw [if_neg (fun h => c h.1), if_neg c]
    · rw [if_neg d, sms_congr (g := fun _ => 0) n (fun s _ => if_neg (fun h => d h.2)), sms_zero]
theorem NP_le {f : Nat → Nat → Bool} {n : Nat} (hn : n ≤ 6) : ∀ k A B, NP f n k A B ≤ 6 ^ k
  | 0, A, B => by
    unfold NP
    split <;> simp
  | k + 1, A, B => by
    unfold NP
    have := sms_le (f := fun s => if f A s = true then NP f n k (stb A s) B else 0) (b := 6 ^ k) n (fun s _ => by
      by_cases c : f A s = true
      · rw [if_pos c]; exact NP_le hn k _ _
      · rw [if_neg c]; exact Nat.zero_le _)
    have h2 : 6 ^ k * n ≤ 6 ^ k * 6 := Nat.mul_le_mul_left _ hn
    rw [Nat.pow_succ]
    omega
theorem NP_small {f : Nat → Nat → Bool} {n k A B : Nat} (hn : n ≤ 6) (hk : k ≤ 6) : NP f n k A B ≤ 46656 := by
  have h1 := NP_le (f := f) hn k A B
  have h2 : 6 ^ k ≤ 6 ^ 6 := Nat.pow_le_pow_right (by decide) hk
  omega
/-! all rows -/
/-- all rows that go on from r (its first j set), k to come -/
def trO {α : Type} (f : Nat → Nat → Bool) (n : Nat) (leaf : (Nat → Nat) → α → α) : Nat → Nat → Nat → (Nat → Nat) → α → α
  | 0, _, _, r, a => leaf r a
  | k + 1, j, A, r, a => rng (fun s a => if f A s = true then trO f n leaf k (j + 1) (stb A s) (upN r j s) a else a) 0 n a
def sO (f : Nat → Nat → Bool) (n : Nat) (φ : (Nat → Nat) → Nat) : Nat → Nat → Nat → (Nat → Nat) → Nat
  | 0, _, _, r => φ r
  | k + 1, j, A, r => sms (fun s => if f A s = true then sO f n φ k (j + 1) (stb A s) (upN r j s) else 0) n
theorem rng_add {α : Type} {g : Nat → α → α} {π : α → Nat} {w : Nat → Nat} (h : ∀ s a, π (g s a) = π a + w s) : ∀ n lo a, π (rng g lo n a) = π a + sms (fun i => w (lo + i)) n
  | 0, _, _ => rfl
  | n + 1, lo, a => by
    have e : sms (fun i => w (lo + i)) (n + 1) = w lo + sms (fun i => w (lo + 1 + i)) n := by
      have key : ∀ m, sms (fun i => w (lo + i)) (m + 1) = w lo + sms (fun i => w (lo + 1 + i)) m := by
        intro m
        induction m with
        | zero => simp [sms]
        | succ m ih =>
          show sms (fun i => w (lo + i)) (m + 1) + w (lo + (m + 1)) = w lo + (sms (fun i => w (lo + 1 + i)) m + w (lo + 1 + m))
          rw [ih, show lo + (m + 1) = lo + 1 + m by omega]
          omega
      exact key n
    show π (rng g (lo + 1) n (g lo a)) = _
    rw [rng_add h n (lo + 1), h, e]
    omega
theorem trO_add {α : Type} {f : Nat → Nat → Bool} {n : Nat} {leaf : (Nat → Nat) → α → α} {π : α → Nat} {φ : (Nat → Nat) → Nat} (hl : ∀ r a, π (leaf r a) = π a + φ r) : ∀ k j A r a, π (trO f n leaf k j A r a) = π a + sO f n φ k j A r
  | 0, _, _, r, a => hl r a
  | k + 1, j, A, r, a => by
    unfold trO sO
    rw [rng_add (π := π) (w := fun s => if f A s = true then sO f n φ k (j + 1) (stb A s) (upN r j s) else 0) (fun s a => ?_)]
    · congr 1
      exact sms_congr n (fun i _ => by rw [Nat.zero_add])
    · by_cases c : f A s = true
      · rw [if_pos c, if_pos c]
        exact trO_add hl k (j + 1) _ _ a
      · rw [if_neg c, if_neg c, Nat.add_zero]
theorem all_of : ∀ n A, n ≤ 6 → A < 2 ^ n → pc A = n → A = 2 ^ n - 1 := by
  have : ∀ n, n ≤ 6 → ∀ A, A < 2 ^ n → pc A = n → A = 2 ^ n - 1 := by decide +kernel
  exact fun n A h => this n h A
theorem stb_ok : ∀ n A s, n ≤ 6 → A < 2 ^ n → s < n → bt A s = 0 → stb A s < 2 ^ n ∧ pc (stb A s) = pc A + 1 := by
  have : ∀ n, n ≤ 6 → ∀ A, A < 2 ^ n → ∀ s, s < n → bt A s = 0 → stb A s < 2 ^ n ∧ pc (stb A s) = pc A + 1 := by decide +kernel
  exact fun n A s h1 h2 h3 => this n h1 A h2 s h3
theorem all_but : ∀ n A s, n ≤ 6 → A < 2 ^ n → s < n → bt A s = 0 → pc A + 1 = n → A = clr (2 ^ n - 1) s := by
  have : ∀ n, n ≤ 6 → ∀ A, A < 2 ^ n → ∀ s, s < n → bt A s = 0 → pc A + 1 = n → A = clr (2 ^ n - 1) s := by decide +kernel
  exact fun n A s h1 h2 h3 => this n h1 A h2 s h3
theorem bt_all : ∀ n s, n ≤ 6 → s < n → bt (2 ^ n - 1) s = 1 := by
  have : ∀ n, n ≤ 6 → ∀ s, s < n → bt (2 ^ n - 1) s = 1 := by decide +kernel
  exact fun n s h1 => this n h1 s
theorem bt_high : ∀ n A s, n ≤ 6 → A < 2 ^ n → n ≤ s → s < 6 → bt A s = 0 := by
  have : ∀ n, n ≤ 6 → ∀ A, A < 2 ^ n → ∀ s, s < 6 → n ≤ s → bt A s = 0 := by decide +kernel
  exact fun n A s h1 h2 h3 h4 => this n h1 A h2 s h4 h3
/-- how many rows in all -/
theorem sO_all {f : Nat → Nat → Bool} {n : Nat} (hn : n ≤ 6) (hf : ∀ A s, f A s = true → bt A s = 0) : ∀ k j A r, A < 2 ^ n → pc A + k = n → sO f n (fun _ => 1) k j A r = NP f n k A (2 ^ n - 1)
  | 0, j, A, r, hA, hk => by
    show 1 = if A = 2 ^ n - 1 then 1 else 0
    rw [if_pos (all_of n A hn hA (by omega))]
  | k + 1, j, A, r, hA, hk => by
    unfold sO NP
    refine sms_congr n (fun s hs => ?_)
    by_cases c : f A s = true
    · obtain ⟨h1, h2⟩ := stb_ok n A s hn hA hs (hf A s c)
      rw [if_pos c, if_pos c, sO_all hn hf k (j + 1) _ _ h1 (by omega)]
    · rw [if_neg c, if_neg c]
/-- how many that begin with s -/
theorem sO_head {f : Nat → Nat → Bool} {n s : Nat} (hn : n ≤ 6) (hf : ∀ A s, f A s = true → bt A s = 0) : ∀ k j A r, 0 < j → A < 2 ^ n → pc A + k = n → sO f n (fun r => if r 0 = s then 1 else 0) k j A r = if r 0 = s then NP f n k A (2 ^ n - 1) else 0
  | 0, j, A, r, hj, hA, hk => by
    show (if r 0 = s then 1 else 0) = if r 0 = s then (if A = 2 ^ n - 1 then 1 else 0) else 0
    rw [if_pos (all_of n A hn hA (by omega))]
  | k + 1, j, A, r, hj, hA, hk => by
    unfold sO NP
    rw [sms_if]
    refine sms_congr n (fun s' hs => ?_)
    by_cases c : f A s' = true
    · obtain ⟨h1, h2⟩ := stb_ok n A s' hn hA hs (hf A s' c)
      rw [if_pos c, if_pos c, sO_head hn hf k (j + 1) _ _ (by omega) h1 (by omega)]
      have : upN r j s' 0 = r 0 := by
        unfold upN
        rw [if_neg (by omega)]
      rw [this]
    · rw [if_neg c, if_neg c]
      simp
theorem sO_first {f : Nat → Nat → Bool} {n s : Nat} (hn : n ≤ 6) (h1 : 1 ≤ n) (hs : s < n) (hf : ∀ A s, f A s = true → bt A s = 0) (r : Nat → Nat) : sO f n (fun r => if r 0 = s then 1 else 0) n 0 0 r = if f 0 s = true then NP f n (n - 1) (stb 0 s) (2 ^ n - 1) else 0 := by
  obtain ⟨m, rfl⟩ : ∃ m, n = m + 1 := ⟨n - 1, by omega⟩
  show sms (fun s' => if f 0 s' = true then sO f (m + 1) (fun r => if r 0 = s then 1 else 0) m (0 + 1) (stb 0 s') (upN r 0 s') else 0) (m + 1) = _
  have p0 : 0 < 2 ^ (m + 1) := Nat.two_pow_pos _
  have pc0 : pc 0 = 0 := rfl
  rw [sms_one (i0 := s) (m + 1) hs (fun s' hs' hne => ?_)]
  · by_cases c : f 0 s = true
    · obtain ⟨e1, e2⟩ := stb_ok (m + 1) 0 s hn p0 hs (hf 0 s c)
      rw [if_pos c, if_pos c, sO_head hn hf m _ _ _ (by omega) e1 (by omega), if_pos (by simp [upN])]
      rfl
    · rw [if_neg c, if_neg c]
  · by_cases c : f 0 s' = true
    · obtain ⟨e1, e2⟩ := stb_ok (m + 1) 0 s' hn p0 hs' (hf 0 s' c)
      rw [if_pos c, sO_head hn hf m _ _ _ (by omega) e1 (by omega), if_neg (by simp [upN]; exact hne)]
    · rw [if_neg c]
/-- how many that end with s -/
theorem sO_last {f : Nat → Nat → Bool} {n s : Nat} (hn : n ≤ 6) (hs : s < n) (hf : ∀ A s, f A s = true → bt A s = 0) : ∀ k j A r, A < 2 ^ n → pc A + (k + 1) = n → j + (k + 1) = n → sO f n (fun r => if r (n - 1) = s then 1 else 0) (k + 1) j A r = if f (clr (2 ^ n - 1) s) s = true then NP f n k A (clr (2 ^ n - 1) s) else 0
  | 0, j, A, r, hA, hk, hj => by
    show sms (fun s' => if f A s' = true then (if upN r j s' (n - 1) = s then 1 else 0) else 0) n = if f (clr (2 ^ n - 1) s) s = true then (if A = clr (2 ^ n - 1) s then 1 else 0) else 0
    rw [sms_one (i0 := s) n hs (fun s' _ hne => ?_)]
    · rw [if_pos (show upN r j s (n - 1) = s by unfold upN; rw [if_pos (by omega)])]
      by_cases c : f A s = true
      · have e := all_but n A s hn hA hs (hf A s c) (by omega)
        rw [if_pos c, ← e, if_pos c, if_pos rfl]
      · rw [if_neg c]
        by_cases e : A = clr (2 ^ n - 1) s
        · rw [← e, if_neg c]
        · rw [if_neg e]
          simp
    · rw [if_neg (show ¬ upN r j s' (n - 1) = s by unfold upN; rw [if_pos (by omega)]; exact hne)]
      simp
  | k + 1, j, A, r, hA, hk, hj => by
    show sms (fun s' => if f A s' = true then sO f n (fun r => if r (n - 1) = s then 1 else 0) (k + 1) (j + 1) (stb A s') (upN r j s') else 0) n = if f (clr (2 ^ n - 1) s) s = true then sms (fun s' => if f A s' = true then NP f n k (stb A s') (clr (2 ^ n - 1) s) else 0) n else 0
    rw [sms_if]
    refine sms_congr n (fun s' hs' => ?_)
    by_cases c : f A s' = true
    · obtain ⟨h1, h2⟩ := stb_ok n A s' hn hA hs' (hf A s' c)
      rw [if_pos c, if_pos c, sO_last hn hs hf k (j + 1) _ _ h1 (by omega) (by omega)]
    · rw [if_neg c, if_neg c]
      simp
/-- pairs of a row: a ahead of b -/
def pr (n a b : Nat) (r : Nat → Nat) : Nat := sms (fun i => sms (fun j => if i < j ∧ r i = a ∧ r j = b then 1 else 0) n) n
def pre (n j A : Nat) (r : Nat → Nat) : Prop := (∀ s, s < n → (bt A s = 1 ↔ ∃ i, i < j ∧ r i = s)) ∧ (∀ i i', i < j → i' < j → r i = r i' → i = i')
def fab (f : Nat → Nat → Bool) (a b : Nat) : Nat → Nat → Bool := fun A s => f A s && (s != b || bt A a == 1)
theorem pr_1 {n a b i0 j0 : Nat} {r : Nat → Nat} (hd : ∀ i i', i < n → i' < n → r i = r i' → i = i') (h1 : i0 < j0) (h2 : j0 < n) (h3 : r i0 = a) (h4 : r j0 = b) : pr n a b r = 1 := by
  unfold pr
  rw [sms_one (i0 := i0) n (by omega) (fun i hi hne => ?_)]
  · rw [sms_one (i0 := j0) n h2 (fun j hj hne => ?_)]
    · rw [if_pos ⟨h1, h3, h4⟩]
    · rw [if_neg (fun h => hne (hd j j0 hj h2 (h.2.2.trans h4.symm)))]
  · rw [sms_congr (g := fun _ => 0) n (fun j hj => if_neg (fun h => hne (hd i i0 hi (by omega) (h.2.1.trans h3.symm)))), sms_zero]
theorem pr_0 {n a b : Nat} {r : Nat → Nat} (h : ¬ ∃ i i', i < i' ∧ i' < n ∧ r i = a ∧ r i' = b) : pr n a b r = 0 := by
  unfold pr
  rw [sms_congr (g := fun _ => 0) n (fun i hi => ?_), sms_zero]
  rw [sms_congr (g := fun _ => 0) n (fun j hj => if_neg (fun hh => h ⟨i, j, hh.1, hj, hh.2.1, hh.2.2⟩)), sms_zero]
theorem pre_0 (n : Nat) (r : Nat → Nat) : pre n 0 0 r := ⟨fun s _ => ⟨fun h => absurd h (by simp [bt]), fun ⟨i, hi, _⟩ => absurd hi (Nat.not_lt_zero _)⟩, fun i i' hi _ _ => absurd hi (Nat.not_lt_zero _)⟩
theorem pre_step {n j A s : Nat} {r : Nat → Nat} (hn : n ≤ 6) (hA : A < 2 ^ n) (hs : s < n) (h0 : bt A s = 0) (h : pre n j A r) : pre n (j + 1) (stb A s) (upN r j s) := by
  have hA64 : A < 64 := Nat.lt_of_lt_of_le hA (two_le hn).2
  obtain ⟨h1, h2⟩ := h
  have old : ∀ i, i < j → upN r j s i = r i := fun i hi => by unfold upN; rw [if_neg (by omega)]
  have new : upN r j s j = s := by simp [upN]
  have ns : ∀ i, i < j → r i ≠ s := fun i hi e => by
    have := (h1 s hs).mpr ⟨i, hi, e⟩
    omega
  refine ⟨fun x hx => ?_, fun i i' hi hi' e => ?_⟩
  · rw [bt_stb A s x hA64 (by omega) (by omega)]
    by_cases e : x = s
    · rw [if_pos e]
      exact ⟨fun _ => ⟨j, by omega, by rw [new, e]⟩, fun _ => rfl⟩
    · rw [if_neg e, h1 x hx]
      constructor
      · rintro ⟨i, hi, e2⟩
        exact ⟨i, by omega, by rw [old i hi, e2]⟩
      · rintro ⟨i, hi, e2⟩
        by_cases ei : i = j
        · rw [ei, new] at e2
          exact absurd e2.symm e
        · exact ⟨i, by omega, by rw [← old i (by omega), e2]⟩
  · by_cases ei : i = j
    · by_cases ei' : i' = j
      · omega
      · rw [ei, new, old i' (by omega)] at e
        exact absurd e.symm (ns i' (by omega))
    · by_cases ei' : i' = j
      · rw [ei', new, old i (by omega)] at e
        exact absurd e (ns i (by omega))
      · rw [old i (by omega), old i' (by omega)] at e
        exact h2 i i' (by omega) (by omega) e
/-- how many with a ahead of b -/
theorem sO_pr {f : Nat → Nat → Bool} {n a b : Nat} (hn : n ≤ 6) (ha : a < n) (hb : b < n) (hab : a ≠ b) (hf : ∀ A s, f A s = true → bt A s = 0) : ∀ k j A r, A < 2 ^ n → pc A + k = n → j + k = n → pre n j A r → ((bt A b = 1 ∧ ¬ ∃ i i', i < i' ∧ i' < j ∧ r i = a ∧ r i' = b) → sO f n (pr n a b) k j A r = 0) ∧ (¬ (bt A b = 1 ∧ ¬ ∃ i i', i < i' ∧ i' < j ∧ r i = a ∧ r i' = b) → sO f n (pr n a b) k j A r = NP (fab f a b) n k A (2 ^ n - 1))
  | 0, j, A, r, hA, hk, hj, hp => by
    have eA := all_of n A hn hA (by omega)
    have ej : j = n := by omega
    subst ej
    refine ⟨fun h => pr_0 h.2, fun h => ?_⟩
    have hbA : bt A b = 1 := by rw [eA]; exact bt_all j b hn hb
    have : ∃ i i', i < i' ∧ i' < j ∧ r i = a ∧ r i' = b := Classical.byContradiction (fun hh => h ⟨hbA, hh⟩)
    obtain ⟨i, i', h1, h2, h3, h4⟩ := this
    show pr j a b r = if A = 2 ^ j - 1 then 1 else 0
    rw [if_pos eA]
    exact pr_1 hp.2 h1 h2 h3 h4
  | k + 1, j, A, r, hA, hk, hj, hp => by
    have hA64 : A < 64 := Nat.lt_of_lt_of_le hA (two_le hn).2
    have old : ∀ s i, i < j → upN r j s i = r i := fun s i hi => by unfold upN; rw [if_neg (by omega)]
    have new : ∀ s, upN r j s j = s := fun s => by simp [upN]
    refine ⟨fun h => ?_, fun h => ?_⟩
    · show sms (fun s => if f A s = true then sO f n (pr n a b) k (j + 1) (stb A s) (upN r j s) else 0) n = 0
      rw [sms_congr (g := fun _ => 0) n (fun s hs => ?_), sms_zero]
      by_cases c : f A s = true
      · rw [if_pos c]
        have h0 := hf A s c
        obtain ⟨h1, h2⟩ := stb_ok n A s hn hA hs h0
        have hsb : s ≠ b := fun e => by
          rw [e] at h0
          omega
        refine (sO_pr hn ha hb hab hf k (j + 1) _ _ h1 (by omega) (by omega) (pre_step hn hA hs h0 hp)).1 ⟨?_, ?_⟩
        · rw [bt_stb A s b hA64 (by omega) (by omega), if_neg (fun e => hsb e.symm)]
          exact h.1
        · rintro ⟨i, i', g1, g2, g3, g4⟩
          by_cases ei : i' = j
          · rw [ei, new] at g4
            exact hsb g4
          · exact h.2 ⟨i, i', g1, by omega, by rw [← old s i (by omega)]; exact g3, by rw [← old s i' (by omega)]; exact g4⟩
      · rw [if_neg c]
    · show sms (fun s => if f A s = true then sO f n (pr n a b) k (j + 1) (stb A s) (upN r j s) else 0) n = sms (fun s => if fab f a b A s = true then NP (fab f a b) n k (stb A s) (2 ^ n - 1) else 0) n
      refine sms_congr n (fun s hs => ?_)
      by_cases c : f A s = true
      · rw [if_pos c]
        have h0 := hf A s c
        obtain ⟨h1, h2⟩ := stb_ok n A s hn hA hs h0
        have ih := sO_pr hn ha hb hab hf k (j + 1) _ _ h1 (by omega) (by omega) (pre_step hn hA hs h0 hp)
        have hbt := bt_lt A a
        by_cases d : s = b ∧ bt A a = 0
        · have e1 : ¬ fab f a b A s = true := by
            unfold fab
            rw [c, d.1, d.2]
            simp
          rw [if_neg e1]
          refine ih.1 ⟨?_, ?_⟩
          · rw [bt_stb A s b hA64 (by omega) (by omega), if_pos d.1.symm]
          · rintro ⟨i, i', g1, g2, g3, g4⟩
            have : bt A a = 1 := (hp.1 a ha).mpr ⟨i, by omega, by rw [← old s i (by omega)]; exact g3⟩
            omega
        · have e1 : fab f a b A s = true := by
            unfold fab
            rw [c]
            simp
            by_cases d1 : s = b
            · have d2 : ¬ bt A a = 0 := fun e => d ⟨d1, e⟩
              exact Or.inr (by omega)
            · exact Or.inl d1
          rw [if_pos e1]
          refine ih.2 ?_
          rintro ⟨g1, g2⟩
          rw [bt_stb A s b hA64 (by omega) (by omega)] at g1
          by_cases d1 : s = b
          · have d2 : bt A a = 1 := by
              have : ¬ bt A a = 0 := fun e => d ⟨d1, e⟩
              omega
            obtain ⟨i, hi, e2⟩ := (hp.1 a ha).mp d2
            exact g2 ⟨i, j, hi, by omega, by rw [old s i hi]; exact e2, by rw [new]; exact d1⟩
          · rw [if_neg (fun e => d1 e.symm)] at g1
            apply h
            refine ⟨g1, ?_⟩
            rintro ⟨i, i', g3, g4, g5, g6⟩
            exact g2 ⟨i, i', g3, by omega, by rw [old s i (by omega)]; exact g5, by rw [old s i' (by omega)]; exact g6⟩
      · have : ¬ fab f a b A s = true := by
          unfold fab
          simp [c]
        rw [if_neg c, if_neg this]
/-! the first row -/
/-- the first from lo on (m of them) with g, else d -/
def fst1 (g : Nat → Bool) : Nat → Nat → Nat → Nat
  | _, 0, d => d
  | lo, m + 1, d => if g lo = true then lo else fst1 g (lo + 1) m d
theorem fst1_ok {g : Nat → Bool} : ∀ m lo d, (∃ i, lo ≤ i ∧ i < lo + m ∧ g i = true) → g (fst1 g lo m d) = true ∧ lo ≤ fst1 g lo m d ∧ fst1 g lo m d < lo + m ∧ ∀ i, lo ≤ i → i < fst1 g lo m d → g i = false
  | 0, lo, d, ⟨i, h1, h2, _⟩ => by omega
  | m + 1, lo, d, ⟨i, h1, h2, h3⟩ => by
    unfold fst1
    by_cases c : g lo = true
    · rw [if_pos c]
      exact ⟨c, by omega, by omega, fun i h1 h2 => by omega⟩
    · rw [if_neg c]
      obtain ⟨e1, e2, e3, e4⟩ := fst1_ok m (lo + 1) d ⟨i, by
        rcases Nat.lt_or_ge lo i with h | h
        · omega
        · have : i = lo := by omega
          rw [this] at h3
          exact absurd h3 c, by omega, h3⟩
      refine ⟨e1, by omega, by omega, fun i h1 h2 => ?_⟩
      by_cases ei : i = lo
      · rw [ei]
        exact Bool.eq_false_iff.mpr c
      · exact e4 i (by omega) h2
/-- the next of the first row -/
def nxt (f : Nat → Nat → Bool) (n k A : Nat) : Nat := fst1 (fun s => f A s && (NP f n k (stb A s) (2 ^ n - 1) != 0)) 0 n 0
/-- the first row that goes on from r -/
def gr (f : Nat → Nat → Bool) (n : Nat) : Nat → Nat → Nat → (Nat → Nat) → (Nat → Nat)
  | 0, _, _, r => r
  | k + 1, j, A, r => gr f n k (j + 1) (stb A (nxt f n k A)) (upN r j (nxt f n k A))
theorem NP_ex {f : Nat → Nat → Bool} {n k A B : Nat} : NP f n (k + 1) A B ≠ 0 ↔ ∃ s, s < n ∧ f A s = true ∧ NP f n k (stb A s) B ≠ 0 := by
  constructor
  · intro h
    refine Classical.byContradiction (fun hn => h ?_)
    unfold NP
    rw [sms_congr (g := fun _ => 0) n (fun s hs => ?_), sms_zero]
    by_cases c : f A s = true
    · rw [if_pos c]
      exact Classical.byContradiction (fun h0 => hn ⟨s, hs, c, h0⟩)
    · rw [if_neg c]
  · rintro ⟨s, hs, c, h0⟩
    have := sms_pos (f := fun s => if f A s = true then NP f n k (stb A s) B else 0) n hs
    rw [if_pos c] at this
    unfold NP
    omega
theorem trO_first {α : Type} {f : Nat → Nat → Bool} {n : Nat} {leaf : (Nat → Nat) → α → α} {M : α → Nat} {fr : α → (Nat → Nat)} (hM : ∀ r a, M (leaf r a) = M a + 1) (hfr : ∀ r a, fr (leaf r a) = if M a = 0 then r else fr a) (hn : n ≤ 6) (hf : ∀ A s, f A s = true → bt A s = 0) : ∀ k j A r a, A < 2 ^ n → pc A + k = n → (¬ (M a = 0 ∧ NP f n k A (2 ^ n - 1) ≠ 0) → fr (trO f n leaf k j A r a) = fr a) ∧ (M a = 0 → NP f n k A (2 ^ n - 1) ≠ 0 → fr (trO f n leaf k j A r a) = gr f n k j A r)
  | 0, j, A, r, a, hA, hk => by
    have eA := all_of n A hn hA (by omega)
    have e1 : NP f n 0 A (2 ^ n - 1) = 1 := by
      show (if A = 2 ^ n - 1 then 1 else 0) = 1
      rw [if_pos eA]
    rw [e1]
    refine ⟨fun h => ?_, fun h _ => ?_⟩
    · show fr (leaf r a) = _
      rw [hfr, if_neg (fun c => h ⟨c, by decide⟩)]
    · show fr (leaf r a) = r
      rw [hfr, if_pos h]
  | k + 1, j, A, r, a, hA, hk => by
    have hadd : ∀ k j A r a, M (trO f n leaf k j A r a) = M a + sO f n (fun _ => 1) k j A r := trO_add (π := M) (φ := fun _ => 1) hM
    -- the fold from lo on
    have gen : ∀ m lo a, lo + m = n → (¬ (M a = 0 ∧ ∃ s, lo ≤ s ∧ s < n ∧ f A s = true ∧ NP f n k (stb A s) (2 ^ n - 1) ≠ 0) → fr (rng (fun s a => if f A s = true then trO f n leaf k (j + 1) (stb A s) (upN r j s) a else a) lo m a) = fr a) ∧ (M a = 0 → (∃ s, lo ≤ s ∧ s < n ∧ f A s = true ∧ NP f n k (stb A s) (2 ^ n - 1) ≠ 0) → fr (rng (fun s a => if f A s = true then trO f n leaf k (j + 1) (stb A s) (upN r j s) a else a) lo m a) = gr f n k (j + 1) (stb A (fst1 (fun s => f A s && (NP f n k (stb A s) (2 ^ n - 1) != 0)) lo m 0)) (upN r j (fst1 (fun s => f A s && (NP f n k (stb A s) (2 ^ n - 1) != 0)) lo m 0))) := by
      intro m
      induction m with
      | zero =>
        intro lo a hlo
        refine ⟨fun _ => rfl, fun _ h => ?_⟩
        obtain ⟨s, h1, h2, _⟩ := h
        omega
      | succ m ih =>
        intro lo a hlo
        show (_ → fr (rng _ (lo + 1) m (if f A lo = true then trO f n leaf k (j + 1) (stb A lo) (upN r j lo) a else a)) = fr a) ∧ (_ → _ → fr (rng _ (lo + 1) m (if f A lo = true then trO f n leaf k (j + 1) (stb A lo) (upN r j lo) a else a)) = _)
        by_cases c : f A lo = true
        · rw [if_pos c]
          obtain ⟨h1, h2⟩ := stb_ok n A lo hn hA (by omega) (hf A lo c)
          obtain ⟨t1, t2⟩ := trO_first hM hfr hn hf k (j + 1) (stb A lo) (upN r j lo) a h1 (by omega)
          have hMs : M (trO f n leaf k (j + 1) (stb A lo) (upN r j lo) a) = M a + NP f n k (stb A lo) (2 ^ n - 1) := by rw [hadd, sO_all hn hf k (j + 1) _ _ h1 (by omega)]
          obtain ⟨i1, i2⟩ := ih (lo + 1) (trO f n leaf k (j + 1) (stb A lo) (upN r j lo) a) (by omega)
          rw [hMs] at i1 i2
          by_cases d : NP f n k (stb A lo) (2 ^ n - 1) = 0
          · rw [d, Nat.add_zero] at i1 i2
            have t1' := t1 (fun h => h.2 d)
            have ex : (∃ s, lo ≤ s ∧ s < n ∧ f A s = true ∧ NP f n k (stb A s) (2 ^ n - 1) ≠ 0) ↔ (∃ s, lo + 1 ≤ s ∧ s < n ∧ f A s = true ∧ NP f n k (stb A s) (2 ^ n - 1) ≠ 0) := by
              constructor
              · rintro ⟨s, g1, g2, g3, g4⟩
                refine ⟨s, ?_, g2, g3, g4⟩
                rcases Nat.lt_or_ge lo s with h | h
                · omega
                · have : s = lo := by omega
                  rw [this] at g4
                  exact absurd d g4
              · rintro ⟨s, g1, g2, g3, g4⟩
                exact ⟨s, by omega, g2, g3, g4⟩
            have ef : fst1 (fun s => f A s && (NP f n k (stb A s) (2 ^ n - 1) != 0)) lo (m + 1) 0 = fst1 (fun s => f A s && (NP f n k (stb A s) (2 ^ n - 1) != 0)) (lo + 1) m 0 := by
              show (if _ then _ else _) = _
              rw [if_neg (by simp [d])]
            rw [ex, ef]
            exact ⟨fun h => (i1 h).trans t1', i2⟩
          · have hne : M a + NP f n k (stb A lo) (2 ^ n - 1) ≠ 0 := by omega
            have i1' := i1 (fun h => hne h.1)
            have exl : ∃ s, lo ≤ s ∧ s < n ∧ f A s = true ∧ NP f n k (stb A s) (2 ^ n - 1) ≠ 0 := ⟨lo, Nat.le_refl _, by omega, c, d⟩
            have ef : fst1 (fun s => f A s && (NP f n k (stb A s) (2 ^ n - 1) != 0)) lo (m + 1) 0 = lo := by
              show (if _ then _ else _) = _
              rw [if_pos (by simp [c, d])]
            rw [ef]
            refine ⟨fun h => ?_, fun h _ => ?_⟩
            · rw [i1']
              exact t1 (fun hh => h ⟨hh.1, exl⟩)
            · rw [i1']
              exact t2 h d
        · rw [if_neg c]
          obtain ⟨i1, i2⟩ := ih (lo + 1) a (by omega)
          have ex : (∃ s, lo ≤ s ∧ s < n ∧ f A s = true ∧ NP f n k (stb A s) (2 ^ n - 1) ≠ 0) ↔ (∃ s, lo + 1 ≤ s ∧ s < n ∧ f A s = true ∧ NP f n k (stb A s) (2 ^ n - 1) ≠ 0) := by
            constructor
            · rintro ⟨s, g1, g2, g3, g4⟩
              refine ⟨s, ?_, g2, g3, g4⟩
              rcases Nat.lt_or_ge lo s with h | h
              · omega
              · have : s = lo := by omega
                rw [this] at g3
                exact absurd g3 c
            · rintro ⟨s, g1, g2, g3, g4⟩
              exact ⟨s, by omega, g2, g3, g4⟩
          have ef : fst1 (fun s => f A s && (NP f n k (stb A s) (2 ^ n - 1) != 0)) lo (m + 1) 0 = fst1 (fun s => f A s && (NP f n k (stb A s) (2 ^ n - 1) != 0)) (lo + 1) m 0 := by
            show (if _ then _ else _) = _
            rw [if_neg (by simp [c])]
          rw [ex, ef]
          exact ⟨i1, i2⟩
    obtain ⟨g1, g2⟩ := gen n 0 a (by omega)
    have ex : (∃ s, 0 ≤ s ∧ s < n ∧ f A s = true ∧ NP f n k (stb A s) (2 ^ n - 1) ≠ 0) ↔ NP f n (k + 1) A (2 ^ n - 1) ≠ 0 := by
      rw [NP_ex]
      constructor
      · rintro ⟨s, _, h2, h3, h4⟩
        exact ⟨s, h2, h3, h4⟩
      · rintro ⟨s, h2, h3, h4⟩
        exact ⟨s, Nat.zero_le _, h2, h3, h4⟩
    rw [ex] at g1 g2
    exact ⟨g1, g2⟩
