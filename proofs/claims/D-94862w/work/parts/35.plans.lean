/-! THE PLAIN LAW, seventeenth part: plans in their order: by recursion, and from one to the next -/
set_option maxRecDepth 100000
def upN (p : Nat → Nat) (k v : Nat) : Nat → Nat := fun j => if j = k then v else p j
def rng {α : Type} (f : Nat → α → α) : Nat → Nat → α → α
  | _, 0, a => a
  | lo, n + 1, a => rng f (lo + 1) n (f lo a)
/-- all plans that go on from p at hour h, k hours to come -/
def tr {α : Type} (N : Nat) (leaf : (Nat → Nat) → α → α) : Nat → Nat → (Nat → Nat) → α → α
  | 0, _, p, a => leaf p a
  | k + 1, h, p, a => rng (fun sp a => tr N leaf k (h + 1) (upN p h sp) a) 0 (N + 1) a
/-- all plans behind p, that part from it at an hour from b on below b + c -/
def fin {α : Type} (N : Nat) (leaf : (Nat → Nat) → α → α) (H b : Nat) : Nat → (Nat → Nat) → α → α
  | 0, _, a => a
  | c + 1, p, a => fin N leaf H b c p (rng (fun sp a => tr N leaf (H - (b + c) - 1) (b + c + 1) (upN p (b + c) sp) a) (p (b + c) + 1) (N - p (b + c)) a)
theorem rng_congr {α : Type} {f g : Nat → α → α} (h : ∀ i a, f i a = g i a) : ∀ n lo a, rng f lo n a = rng g lo n a
  | 0, _, _ => rfl
  | n + 1, lo, a => by
    unfold rng
    rw [h, rng_congr h n]
theorem tr_congr {α : Type} {N : Nat} {leaf : (Nat → Nat) → α → α} : ∀ (k h : Nat) (p q : Nat → Nat) (a : α), (∀ j, j < h ∨ h + k ≤ j → p j = q j) → tr N leaf k h p a = tr N leaf k h q a
  | 0, h, p, q, a, e => by
    have : p = q := funext (fun j => e j (by omega))
    rw [this]
  | k + 1, h, p, q, a, e => by
    unfold tr
    refine rng_congr (fun i a => tr_congr k (h + 1) _ _ a (fun j hj => ?_)) _ _ _
    unfold upN
    by_cases ej : j = h
    · rw [if_pos ej, if_pos ej]
    · rw [if_neg ej, if_neg ej]
      exact e j (by omega)
theorem fin_low {α : Type} {N : Nat} {leaf : (Nat → Nat) → α → α} {H b : Nat} : ∀ (c : Nat) (p : Nat → Nat) (a : α), fin N leaf H b (c + 1) p a = rng (fun sp a => tr N leaf (H - b - 1) (b + 1) (upN p b sp) a) (p b + 1) (N - p b) (fin N leaf H (b + 1) c p a)
  | 0, p, a => rfl
  | c + 1, p, a => by
    rw [fin, fin_low c]
    rw [show fin N leaf H (b + 1) (c + 1) p a = fin N leaf H (b + 1) c p (rng (fun sp a => tr N leaf (H - (b + 1 + c) - 1) (b + 1 + c + 1) (upN p (b + 1 + c) sp) a) (p (b + 1 + c) + 1) (N - p (b + 1 + c)) a) from rfl]
    rw [show b + (c + 1) = b + 1 + c by omega]
theorem tr_fin {α : Type} {N : Nat} {leaf : (Nat → Nat) → α → α} {H : Nat} : ∀ (c b : Nat) (p : Nat → Nat) (a : α), H = b + c → (∀ j, b ≤ j → j < H → p j = 0) → tr N leaf c b p a = fin N leaf H b c p (leaf p a)
  | 0, _, _, _, _, _ => rfl
  | c + 1, b, p, a, hH, hp => by
    rw [fin_low, hp b (Nat.le_refl _) (by omega)]
    have e : upN p b 0 = p := by
      funext j
      unfold upN
      by_cases ej : j = b
      · rw [if_pos ej, ej, hp b (Nat.le_refl _) (by omega)]
      · rw [if_neg ej]
    rw [← tr_fin c (b + 1) p a (by omega) (fun j h1 h2 => hp j (by omega) h2)]
    show rng (fun sp a => tr N leaf c (b + 1) (upN p b sp) a) 1 N (tr N leaf c (b + 1) (upN p b 0) a) = _
    rw [e, show H - b - 1 = c by omega]
    rfl
theorem fin_split {α : Type} {N : Nat} {leaf : (Nat → Nat) → α → α} {H b m : Nat} : ∀ (c : Nat) (p : Nat → Nat) (a : α), fin N leaf H b (m + c) p a = fin N leaf H b m p (fin N leaf H (b + m) c p a)
  | 0, _, _ => rfl
  | c + 1, p, a => by
    show fin N leaf H b (m + c) p _ = fin N leaf H b m p (fin N leaf H (b + m) c p _)
    rw [fin_split c, show b + m.add c = b + m + c from (Nat.add_assoc b m c).symm]
theorem fin_congr {α : Type} {N : Nat} {leaf : (Nat → Nat) → α → α} {H b : Nat} : ∀ (c : Nat) (p q : Nat → Nat) (a : α), b + c ≤ H → (∀ j, j < b + c ∨ H ≤ j → p j = q j) → fin N leaf H b c p a = fin N leaf H b c q a
  | 0, _, _, _, _, _ => rfl
  | c + 1, p, q, a, hc, e => by
    unfold fin
    rw [e (b + c) (by omega), fin_congr c p q _ (by omega) (fun j hj => e j (by omega))]
    congr 1
    refine rng_congr (fun i a => tr_congr _ _ _ _ a (fun j hj => ?_)) _ _ _
    unfold upN
    by_cases ej : j = b + c
    · rw [if_pos ej, if_pos ej]
    · rw [if_neg ej, if_neg ej]
      exact e j (by omega)
theorem fin_top {α : Type} {N : Nat} {leaf : (Nat → Nat) → α → α} {H b : Nat} : ∀ (c : Nat) (p : Nat → Nat) (a : α), (∀ j, b ≤ j → j < b + c → p j = N) → fin N leaf H b c p a = a
  | 0, _, _, _ => rfl
  | c + 1, p, a, e => by
    unfold fin
    rw [e (b + c) (by omega) (by omega), Nat.sub_self]
    exact fin_top c p a (fun j h1 h2 => e j h1 (by omega))
/-- the next plan: unlike in hour h -/
def nx (p : Nat → Nat) (h H : Nat) : Nat → Nat := fun j => if j < h then p j else if j = h then p h + 1 else if j < H then 0 else p j
theorem fin_next {α : Type} {N : Nat} {leaf : (Nat → Nat) → α → α} {H h : Nat} {p : Nat → Nat} (a : α) (hh : h < H) (hN : p h < N) (ht : ∀ j, h < j → j < H → p j = N) : fin N leaf H 0 H p a = fin N leaf H 0 H (nx p h H) (leaf (nx p h H) a) := by
  have eH : H = (h + 1) + (H - h - 1) := by omega
  have n1 : nx p h H h = p h + 1 := by simp [nx]
  have nlt : ∀ j, j < h → nx p h H j = p j := fun j hj => by simp [nx, hj]
  have nge : ∀ j, H ≤ j → nx p h H j = p j := fun j hj => by
    unfold nx
    rw [if_neg (by omega), if_neg (by omega), if_neg (by omega)]
  have n0 : ∀ j, h + 1 ≤ j → j < H → nx p h H j = 0 := fun j h1 h2 => by
    unfold nx
    rw [if_neg (by omega), if_neg (by omega), if_pos h2]
  have sp1 : ∀ (q : Nat → Nat) (x : α), fin N leaf H 0 H q x = fin N leaf H 0 h q (rng (fun sp a => tr N leaf (H - h - 1) (h + 1) (upN q h sp) a) (q h + 1) (N - q h) (fin N leaf H (h + 1) (H - h - 1) q x)) := by
    intro q x
    have := fin_split (N := N) (leaf := leaf) (H := H) (b := 0) (m := h + 1) (H - h - 1) q x
    rw [← eH, Nat.zero_add] at this
    rw [this]
    show fin N leaf H 0 h q (rng (fun sp a => tr N leaf (H - (0 + h) - 1) (0 + h + 1) (upN q (0 + h) sp) a) (q (0 + h) + 1) (N - q (0 + h)) _) = _
    rw [Nat.zero_add]
  rw [sp1 p a, sp1 (nx p h H), fin_top (H - h - 1) p a (fun j h1 h2 => ht j (by omega) (by omega)), n1]
  have e1 : N - p h = (N - (p h + 1)) + 1 := by omega
  rw [e1]
  show fin N leaf H 0 h p (rng (fun sp a => tr N leaf (H - h - 1) (h + 1) (upN p h sp) a) (p h + 1 + 1) (N - (p h + 1)) (tr N leaf (H - h - 1) (h + 1) (upN p h (p h + 1)) a)) = _
  have e2 : ∀ (sp : Nat) (x : α), tr N leaf (H - h - 1) (h + 1) (upN p h sp) x = tr N leaf (H - h - 1) (h + 1) (upN (nx p h H) h sp) x := by
    intro sp x
    refine tr_congr _ _ _ _ x (fun j hj => ?_)
    unfold upN
    by_cases ej : j = h
    · rw [if_pos ej, if_pos ej]
    · rw [if_neg ej, if_neg ej]
      rcases hj with hj | hj
      · exact (nlt j (by omega)).symm
      · exact (nge j (by omega)).symm
  have e3 : upN (nx p h H) h (p h + 1) = nx p h H := by
    funext j
    unfold upN
    by_cases ej : j = h
    · rw [if_pos ej, ej, n1]
    · rw [if_neg ej]
  rw [e2 (p h + 1) a, e3, tr_fin (H := H) (H - h - 1) (h + 1) (nx p h H) a (by omega) n0, rng_congr e2]
  refine fin_congr h p (nx p h H) _ (by omega) (fun j hj => ?_)
  rcases hj with hj | hj
  · exact (nlt j (by omega)).symm
  · exact (nge j hj).symm
/-- how many plans come behind p -/
def one : (Nat → Nat) → Nat → Nat := fun _ n => n + 1
theorem rng_one {f : Nat → Nat → Nat} (h : ∀ i a, f i (a + 1) = f i a + 1) : ∀ n lo a, rng f lo n (a + 1) = rng f lo n a + 1
  | 0, _, _ => rfl
  | n + 1, lo, a => by
    unfold rng
    rw [h, rng_one h n]
theorem tr_one {N : Nat} : ∀ (k h : Nat) (p : Nat → Nat) (a : Nat), tr N one k h p (a + 1) = tr N one k h p a + 1
  | 0, _, _, _ => rfl
  | k + 1, h, p, a => by
    unfold tr
    exact rng_one (fun i a => tr_one k (h + 1) _ a) _ _ _
theorem fin_one {N H b : Nat} : ∀ (c : Nat) (p : Nat → Nat) (a : Nat), fin N one H b c p (a + 1) = fin N one H b c p a + 1
  | 0, _, _ => rfl
  | c + 1, p, a => by
    unfold fin
    rw [rng_one (fun i a => tr_one _ _ _ a), fin_one c]
theorem fin_less {N H h : Nat} {p : Nat → Nat} (hh : h < H) (hN : p h < N) (ht : ∀ j, h < j → j < H → p j = N) : fin N one H 0 H (nx p h H) 0 < fin N one H 0 H p 0 := by
  rw [fin_next (leaf := one) 0 hh hN ht]
  show _ < fin N one H 0 H (nx p h H) (0 + 1)
  rw [fin_one]
  omega
/-! the lantern: what a plan brings -/
def gp (t : gT) (F : gF) (p : Nat → Nat) : Nat → gT
  | 0 => dawn t
  | h + 1 => hour t F h (p h) (gp t F p h)
theorem gp_congr {t : gT} {F : gF} {p q : Nat → Nat} : ∀ h, (∀ j, j < h → p j = q j) → gp t F p h = gp t F q h
  | 0, _ => rfl
  | h + 1, e => by
    unfold gp
    rw [e h (by omega), gp_congr h (fun j hj => e j (by omega))]
theorem gp_ok {t : gT} {F : gF} {p : Nat → Nat} (hg : tG t) : ∀ h, h ≤ 5 → gG t (gp t F p h) ∧ gI t (gp t F p h)
  | 0, _ => ⟨gG_dawn' hg, gI_dawn hg⟩
  | h + 1, hh => by
    obtain ⟨h1, h2⟩ := gp_ok (F := F) (p := p) hg h (by omega)
    exact ⟨gG_hour hg h1 (by omega), gI_hour hg h1 h2 (by omega)⟩
/-- the most that came + 1, the least sum, how many, the first plan -/
abbrev gA : Type := Nat × Nat × Nat × (Nat → Nat)
def cm (g : gT) (sn s : Nat) : Prop := bt sn s = 1 ∧ g 2 s ≠ 0
def wn (t g : gT) (sn : Nat) : Nat := sms (fun s => if bt sn s = 1 ∧ g 2 s ≠ 0 then 1 else 0) (t 0 0)
def wsum (t g : gT) (sn : Nat) : Nat := sms (fun s => if bt sn s = 1 ∧ g 2 s ≠ 0 then g 2 s - 1 else 0) (t 0 0)
def wgh (n s : Nat) (p : Nat → Nat) (a : gA) : gA := if a.1 < n + 1 ∨ (n + 1 = a.1 ∧ s < a.2.1) then (n + 1, s, 1, p) else if n + 1 = a.1 ∧ s = a.2.1 then (a.1, a.2.1, a.2.2.1 + 1, a.2.2.2) else a
def leafL (t : gT) (F : gF) (sn H : Nat) : (Nat → Nat) → gA → gA := fun p a => wgh (wn t (gp t F p H) sn) (wsum t (gp t F p H) sn) p a
