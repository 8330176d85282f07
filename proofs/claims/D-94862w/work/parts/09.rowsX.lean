/-! THE ROW LAYER, second part: cells of the pool, references that may be null, allocation, casts, String constants, statics, arraycopy. -/
set_option maxRecDepth 100000
def sn_oO (S : sn_S) (a ci : Nat) (fs : List Value) : Prop := a ∈ S.2.2.2.1 ∧ S.2.2.2.2 a = .inr (ci, fs)
def sn_oR (S : sn_S) (a : Nat) (x : ClassId × vp_A) : Prop := a ∈ S.2.2.2.1 ∧ S.2.2.2.2 a = .inl x
def sn_pO (S : sn_S) (a : Nat) (e : va_E) : sn_S := (S.1, S.2.1, S.2.2.1, S.2.2.2.1, va_up S.2.2.2.2 a e)
def sn_pN (S : sn_S) (a : Nat) (e : va_E) : sn_S := (S.1, S.2.1, S.2.2.1, S.2.2.2.1 ++ [a], va_up S.2.2.2.2 a e)
def sn_gI (S : sn_S) (a ci i : Nat) (K : Int32 → Prop) : Prop := ∃ (fs : List Value) (x : Int32), sn_oO S a ci fs ∧ fs[i]? = some (.int x) ∧ K x
def sn_gQ (S : sn_S) (a ci i : Nat) (K : Option Nat → Prop) : Prop := ∃ (fs : List Value) (x : Option Nat), sn_oO S a ci fs ∧ fs[i]? = some (va_rf x) ∧ K x
def sn_gA (S : sn_S) (a ci i : Nat) (K : Nat → Prop) : Prop := ∃ (fs : List Value) (x : Nat), sn_oO S a ci fs ∧ fs[i]? = some (.ref x) ∧ K x
def sn_gK (w : sn_W) (S : sn_S) (a ci i k : Nat) (K : Prop) : Prop := ∃ fs : List Value, sn_oO S a ci fs ∧ fs[i]? = some (.ref (w.2.2.1 k)) ∧ K
def sn_sV (S : sn_S) (a ci i : Nat) (v : Value) (K : sn_S → Prop) : Prop := ∃ fs : List Value, sn_oO S a ci fs ∧ i < fs.length ∧ K (sn_pO S a (.inr (ci, fs.set i v)))
def sn_aI (w : sn_W) (S : sn_S) (a t : Nat) (i : Int32) (K : Int32 → Prop) : Prop := ∃ (n : Nat) (g : Nat → Int32), sn_oR S a (w.2.1 t, n, .inl g) ∧ vp_in i n ∧ K (g i.toNatClampNeg)
def sn_aQ (w : sn_W) (S : sn_S) (a t : Nat) (i : Int32) (K : Option Nat → Prop) : Prop := ∃ (n : Nat) (g : Nat → Option Nat), sn_oR S a (w.2.1 t, n, .inr (.inr (.inr (.inr g)))) ∧ vp_in i n ∧ K (g i.toNatClampNeg)
def sn_uI (w : sn_W) (S : sn_S) (a t : Nat) (i x : Int32) (K : sn_S → Prop) : Prop := ∃ (n : Nat) (g : Nat → Int32), sn_oR S a (w.2.1 t, n, .inl g) ∧ vp_in i n ∧ K (sn_pO S a (.inl (w.2.1 t, n, .inl (upd g i.toNatClampNeg x))))
def sn_uQ (w : sn_W) (S : sn_S) (a t : Nat) (i : Int32) (x : Option Nat) (K : sn_S → Prop) : Prop := ∃ (n : Nat) (g : Nat → Option Nat), sn_oR S a (w.2.1 t, n, .inr (.inr (.inr (.inr g)))) ∧ vp_in i n ∧ K (sn_pO S a (.inl (w.2.1 t, n, .inr (.inr (.inr (.inr (va_up g i.toNatClampNeg x)))))))
def sn_al (w : sn_W) (S : sn_S) (a t : Nat) (K : Int32 → Prop) : Prop := ∃ (n : Nat) (x : (Nat → Int32) ⊕ (Nat → Int64) ⊕ (Nat → UInt32) ⊕ (Nat → UInt64) ⊕ (Nat → Option Nat)), sn_oR S a (w.2.1 t, n, x) ∧ K (Int32.ofNat n)
/-- a reference that isn't null -/
def sn_nn (r : Option Nat) (K : Nat → Prop) : Prop := ∃ a : Nat, r = some a ∧ K a
/-- a new cell -/
def sn_nw (S : sn_S) (mc ms n : Nat) (e : va_E) (K : Nat → sn_S → Prop) : Prop := 1 ≤ mc ∧ n ≤ ms ∧ ∀ a : Nat, a ∉ S.2.2.2.1 → K a (sn_pN S a e)
section SNP
variable {Lo : sn_Lo} {w : sn_W} {R : Room} {Q : Option Value → sn_S → Prop} {E : sn_E} {C : sn_C} {own nm : String} {cc : ByteArray} {nL : Nat} {ret : Option FieldType} {tb : List ExceptionTableEntry} {mc ms pc : Nat} {lv lv' : List (Nat × Value)} {rest st : List Value} {S : sn_S} {P A B : Prop}
theorem sn_pl_at {a : Nat} {e : va_E} (h : a ∈ S.2.2.2.1) (he : S.2.2.2.2 a = e) : ∃ q0 : Nat, (sn_ws Lo w S)[q0]? = some (a, e) := by
  subst he
  exact va_pl_get h
theorem sn_pl_set {A : Nat → Prop} {a k : Nat} {e0 : va_E} (e : va_E) (hD : va_D A (sn_ws Lo w S)) (h : a ∈ S.2.2.2.1) (he : S.2.2.2.2 a = e0) (hk : (sn_ws Lo w S)[k]? = some (a, e0)) : (sn_ws Lo w S).set k (a, e) = sn_ws Lo w (sn_pO S a e) := by
  subst he
  exact va_pl_set hD h hk
theorem sn_pl_push {a : Nat} {e : va_E} (h : a ∉ S.2.2.2.1) : sn_ws Lo w S ++ [(a, e)] = sn_ws Lo w (sn_pN S a e) := by
  show (sn_fx Lo w S ++ va_pl S.2.2.2.1 S.2.2.2.2) ++ [(a, e)] = sn_fx Lo w S ++ va_pl (S.2.2.2.1 ++ [a]) (va_up S.2.2.2.2 a e)
  rw [List.append_assoc, va_pl_push h]
theorem sn_Rv_P {a ci : Nat} {fs : List Value} (h : sn_oO S a ci fs) : sn_Rv Lo w S a ci := by
  obtain ⟨q0, hq⟩ := sn_pl_at (Lo := Lo) (w := w) h.1 h.2
  exact ⟨q0, fs, hq⟩
theorem sn_RvP {a ci : Nat} (h : (∃ fs, sn_oO S a ci fs) ∧ P) : sn_Rv Lo w S a ci := by
  obtain ⟨⟨fs, h⟩, -⟩ := h
  exact sn_Rv_P h
theorem sn_deref {r : Option Nat} {K : Nat → Prop} (k : ∀ a : Nat, K a → sn_G Lo w R Q E C mc ms pc lv (.ref a :: rest) S) : sn_nn r K → sn_G Lo w R Q E C mc ms pc lv (va_rf r :: rest) S := by
  rintro ⟨a, rfl, h⟩
  exact k a h
theorem sn_nmA {x : Nat} {K : Nat → Prop} (k : ∀ v : Nat, K v → sn_G Lo w R Q E C mc ms pc lv (.ref v :: rest) S) : sn_lt x K → sn_G Lo w R Q E C mc ms pc lv (.ref x :: rest) S := fun h => k x h
theorem sn_nmQ {x : Option Nat} {K : Option Nat → Prop} (k : ∀ v : Option Nat, K v → sn_G Lo w R Q E C mc ms pc lv (va_rf v :: rest) S) : sn_lt x K → sn_G Lo w R Q E C mc ms pc lv (va_rf x :: rest) S := fun h => k x h
theorem sn_bud {K : Nat → Nat → Prop} (k : ∀ u v : Nat, u ≤ mc → v ≤ ms → K u v → sn_G Lo w R Q E C mc ms pc lv st S) : (∃ u v : Nat, u ≤ mc ∧ v ≤ ms ∧ K u v) → sn_G Lo w R Q E C mc ms pc lv st S := by
  rintro ⟨u, v, h1, h2, h⟩
  exact k u v h1 h2 h
theorem sn_no (hp : P → False) : P → sn_G Lo w R Q E C mc ms pc lv st S := fun h => (hp h).elim
theorem sn_ogetI (hO : sn_Ok Lo w C own cc nL ret tb nm) {index ci i c0 a : Nat} {cs : List Nat} {fin : Bool} {ty : FieldType} {K : Int32 → Prop} (hf : sn_Fc Lo own index ci cs i c0 fin ty) (hd : decode cc pc = .ok (.getfield index, 3))
    (kk : ∀ x : Int32, K x → sn_G Lo w R Q E C mc ms (pc + 3) lv (.int x :: rest) S) : sn_gI S a ci i K → sn_G Lo w R Q E C mc ms pc lv (.ref a :: rest) S := by
  obtain ⟨CN, T, N, tyf, hin, hty, hnm, hcl, hi, hc, hq, hfin, hd2⟩ := hf
  obtain ⟨p, e, s, m, args, below, meth, c, A0⟩ := C
  intro q H locs ls hP hD hS hl hm
  obtain ⟨fs, x, ⟨hm1, hm2⟩, hx, h⟩ := q
  obtain ⟨q0, hq0⟩ := sn_pl_at (Lo := Lo) (w := w) hm1 hm2
  exact va_get hO.1 hO.2.1 hO.2.2.2.2.2.2.1 hin hO.2.2.2.2.2.1 hO.2.2.2.2.2.2.2.1 hP q0 hq0 hcl i hi (hO.2.2.2.2.2.2.1 _ hq) (fun _ h => h) hx hd (kk x h H locs ls hP hD hS hl hm)
theorem sn_ogetQ (hO : sn_Ok Lo w C own cc nL ret tb nm) {index ci i c0 a : Nat} {cs : List Nat} {fin : Bool} {ty : FieldType} {K : Option Nat → Prop} (hf : sn_Fc Lo own index ci cs i c0 fin ty) (hd : decode cc pc = .ok (.getfield index, 3))
    (kk : ∀ x : Option Nat, K x → sn_G Lo w R Q E C mc ms (pc + 3) lv (va_rf x :: rest) S) : sn_gQ S a ci i K → sn_G Lo w R Q E C mc ms pc lv (.ref a :: rest) S := by
  obtain ⟨CN, T, N, tyf, hin, hty, hnm, hcl, hi, hc, hq, hfin, hd2⟩ := hf
  obtain ⟨p, e, s, m, args, below, meth, c, A0⟩ := C
  intro q H locs ls hP hD hS hl hm
  obtain ⟨fs, x, ⟨hm1, hm2⟩, hx, h⟩ := q
  obtain ⟨q0, hq0⟩ := sn_pl_at (Lo := Lo) (w := w) hm1 hm2
  exact va_get hO.1 hO.2.1 hO.2.2.2.2.2.2.1 hin hO.2.2.2.2.2.1 hO.2.2.2.2.2.2.2.1 hP q0 hq0 hcl i hi (hO.2.2.2.2.2.2.1 _ hq) (fun _ h => h) hx hd (kk x h H locs ls hP hD hS hl hm)
theorem sn_ogetA (hO : sn_Ok Lo w C own cc nL ret tb nm) {index ci i c0 a : Nat} {cs : List Nat} {fin : Bool} {ty : FieldType} {K : Nat → Prop} (hf : sn_Fc Lo own index ci cs i c0 fin ty) (hd : decode cc pc = .ok (.getfield index, 3))
    (kk : ∀ x : Nat, K x → sn_G Lo w R Q E C mc ms (pc + 3) lv (.ref x :: rest) S) : sn_gA S a ci i K → sn_G Lo w R Q E C mc ms pc lv (.ref a :: rest) S := by
  obtain ⟨CN, T, N, tyf, hin, hty, hnm, hcl, hi, hc, hq, hfin, hd2⟩ := hf
  obtain ⟨p, e, s, m, args, below, meth, c, A0⟩ := C
  intro q H locs ls hP hD hS hl hm
  obtain ⟨fs, x, ⟨hm1, hm2⟩, hx, h⟩ := q
  obtain ⟨q0, hq0⟩ := sn_pl_at (Lo := Lo) (w := w) hm1 hm2
  exact va_get hO.1 hO.2.1 hO.2.2.2.2.2.2.1 hin hO.2.2.2.2.2.1 hO.2.2.2.2.2.2.2.1 hP q0 hq0 hcl i hi (hO.2.2.2.2.2.2.1 _ hq) (fun _ h => h) hx hd (kk x h H locs ls hP hD hS hl hm)
theorem sn_ogetK (hO : sn_Ok Lo w C own cc nL ret tb nm) {index ci i c0 a k : Nat} {cs : List Nat} {fin : Bool} {ty : FieldType} (hf : sn_Fc Lo own index ci cs i c0 fin ty) (hd : decode cc pc = .ok (.getfield index, 3))
    (kk : P → sn_G Lo w R Q E C mc ms (pc + 3) lv (.ref (w.2.2.1 k) :: rest) S) : sn_gK w S a ci i k P → sn_G Lo w R Q E C mc ms pc lv (.ref a :: rest) S := by
  obtain ⟨CN, T, N, tyf, hin, hty, hnm, hcl, hi, hc, hq, hfin, hd2⟩ := hf
  obtain ⟨p, e, s, m, args, below, meth, c, A0⟩ := C
  intro q H locs ls hP hD hS hl hm
  obtain ⟨fs, ⟨hm1, hm2⟩, hx, h⟩ := q
  obtain ⟨q0, hq0⟩ := sn_pl_at (Lo := Lo) (w := w) hm1 hm2
  exact va_get hO.1 hO.2.1 hO.2.2.2.2.2.2.1 hin hO.2.2.2.2.2.1 hO.2.2.2.2.2.2.2.1 hP q0 hq0 hcl i hi (hO.2.2.2.2.2.2.1 _ hq) (fun _ h => h) hx hd (kk h H locs ls hP hD hS hl hm)
theorem sn_oput (hO : sn_Ok Lo w C own cc nL ret tb nm) {index ci i c0 a : Nat} {cs : List Nat} {ty : FieldType} {v : Value} {K : sn_S → Prop} (hf : sn_Fc Lo own index ci cs i c0 false ty) (hn : narrow ty v = v) (hfit : fits ty v = true) (hd : decode cc pc = .ok (.putfield index, 3))
    (kk : ∀ S1 : sn_S, K S1 → sn_G Lo w R Q E C mc ms (pc + 3) lv rest S1) : sn_sV S a ci i v K → sn_G Lo w R Q E C mc ms pc lv (v :: .ref a :: rest) S := by
  obtain ⟨CN, T, N, tyf, hin, hty, hnm, hcl, hi, hc, hq, hfin, hd2⟩ := hf
  obtain ⟨p, e, s, m, args, below, meth, c, A0⟩ := C
  intro q H locs ls hP hD hS hl hm
  obtain ⟨fs, ⟨hm1, hm2⟩, hx, h⟩ := q
  obtain ⟨q0, hq0⟩ := sn_pl_at (Lo := Lo) (w := w) hm1 hm2
  refine va_put hO.1 hO.2.1 hO.2.2.2.2.2.2.1 hin tyf hty hnm hO.2.2.2.2.2.1 hO.2.2.2.2.2.2.2.1 hP hD hS q0 hq0 hcl i hi (hO.2.2.2.2.2.2.1 _ hq) (fun _ h => h) hfin hd2 hn hfit hx hd (fun H1 locs1 hP1 hD1 hS1 => ?_)
  rw [sn_pl_set _ hD hm1 hm2 hq0] at hP1 hD1
  exact kk _ h H1 locs1 ls hP1 hD1 hS1 hl hm
theorem sn_oputF (hO : sn_Ok Lo w C own cc nL ret tb "<init>") {index ci i c0 a : Nat} {cs : List Nat} {ty : FieldType} {v : Value} {K : sn_S → Prop} (hf : sn_Fc Lo own index ci cs i c0 true ty) (hdecl : ∀ (CN : String) (T : u_T) (N : Nat), Lo.2.2.1[ci]? = some (CN, T, N) → (T i).1 = own) (hn : narrow ty v = v) (hfit : fits ty v = true) (hd : decode cc pc = .ok (.putfield index, 3))
    (kk : ∀ S1 : sn_S, K S1 → sn_G Lo w R Q E C mc ms (pc + 3) lv rest S1) : sn_sV S a ci i v K → sn_G Lo w R Q E C mc ms pc lv (v :: .ref a :: rest) S := by
  obtain ⟨CN, T, N, tyf, hin, hty, hnm, hcl, hi, hc, hq, hfin, hd2⟩ := hf
  obtain ⟨p, e, s, m, args, below, meth, c, A0⟩ := C
  intro q H locs ls hP hD hS hl hm
  obtain ⟨fs, ⟨hm1, hm2⟩, hx, h⟩ := q
  obtain ⟨q0, hq0⟩ := sn_pl_at (Lo := Lo) (w := w) hm1 hm2
  refine va_putF hO.1 hO.2.1 hO.2.2.2.2.2.2.1 hin tyf hty hnm hO.2.2.2.2.2.1 hO.2.2.2.2.2.2.2.1 hP hD hS q0 hq0 hcl i hi (hO.2.2.2.2.2.2.1 _ hq) (fun _ h => h) hfin (hO.2.2.2.2.2.2.2.2.2.2.2.2) (hdecl _ _ _ hcl) hd2 hn hfit hx hd (fun H1 locs1 hP1 hD1 hS1 => ?_)
  rw [sn_pl_set _ hD hm1 hm2 hq0] at hP1 hD1
  exact kk _ h H1 locs1 ls hP1 hD1 hS1 hl hm
theorem sn_ogetIN (hO : sn_Ok Lo w C own cc nL ret tb nm) {index ci i c0 a : Nat} {cs : List Nat} {fin : Bool} {ty : FieldType} {K : Int32 → Prop} (hf : sn_FcN Lo own index ci cs i c0 fin ty) (hd : decode cc pc = .ok (.getfield index, 3))
    (kk : ∀ x : Int32, K x → sn_G Lo w R Q E C mc ms (pc + 3) lv (.int x :: rest) S) : sn_gI S a ci i K → sn_G Lo w R Q E C mc ms pc lv (.ref a :: rest) S := by
  obtain ⟨CN, host, T, N, tyf, hin, hty, hnm, hcl, hi, hc, hq, hfin, hd2⟩ := hf
  obtain ⟨p, e, s, m, args, below, meth, c, A0⟩ := C
  intro q H locs ls hP hD hS hl hm
  obtain ⟨fs, x, ⟨hm1, hm2⟩, hx, h⟩ := q
  obtain ⟨q0, hq0⟩ := sn_pl_at (Lo := Lo) (w := w) hm1 hm2
  exact va_getN hO.1 hO.2.1 hO.2.2.2.2.2.2.1 hin hO.2.2.2.2.2.1 hO.2.2.2.2.2.2.2.1 hP q0 hq0 hcl i hi (va_Nw.use rfl (hq _ _ _ _ hO.2.2.2.2.2.2.2.2.2.2.1)) (fun _ h => h) hx hd (kk x h H locs ls hP hD hS hl hm)
theorem sn_ogetQN (hO : sn_Ok Lo w C own cc nL ret tb nm) {index ci i c0 a : Nat} {cs : List Nat} {fin : Bool} {ty : FieldType} {K : Option Nat → Prop} (hf : sn_FcN Lo own index ci cs i c0 fin ty) (hd : decode cc pc = .ok (.getfield index, 3))
    (kk : ∀ x : Option Nat, K x → sn_G Lo w R Q E C mc ms (pc + 3) lv (va_rf x :: rest) S) : sn_gQ S a ci i K → sn_G Lo w R Q E C mc ms pc lv (.ref a :: rest) S := by
  obtain ⟨CN, host, T, N, tyf, hin, hty, hnm, hcl, hi, hc, hq, hfin, hd2⟩ := hf
  obtain ⟨p, e, s, m, args, below, meth, c, A0⟩ := C
  intro q H locs ls hP hD hS hl hm
  obtain ⟨fs, x, ⟨hm1, hm2⟩, hx, h⟩ := q
  obtain ⟨q0, hq0⟩ := sn_pl_at (Lo := Lo) (w := w) hm1 hm2
  exact va_getN hO.1 hO.2.1 hO.2.2.2.2.2.2.1 hin hO.2.2.2.2.2.1 hO.2.2.2.2.2.2.2.1 hP q0 hq0 hcl i hi (va_Nw.use rfl (hq _ _ _ _ hO.2.2.2.2.2.2.2.2.2.2.1)) (fun _ h => h) hx hd (kk x h H locs ls hP hD hS hl hm)
theorem sn_ogetAN (hO : sn_Ok Lo w C own cc nL ret tb nm) {index ci i c0 a : Nat} {cs : List Nat} {fin : Bool} {ty : FieldType} {K : Nat → Prop} (hf : sn_FcN Lo own index ci cs i c0 fin ty) (hd : decode cc pc = .ok (.getfield index, 3))
    (kk : ∀ x : Nat, K x → sn_G Lo w R Q E C mc ms (pc + 3) lv (.ref x :: rest) S) : sn_gA S a ci i K → sn_G Lo w R Q E C mc ms pc lv (.ref a :: rest) S := by
  obtain ⟨CN, host, T, N, tyf, hin, hty, hnm, hcl, hi, hc, hq, hfin, hd2⟩ := hf
  obtain ⟨p, e, s, m, args, below, meth, c, A0⟩ := C
  intro q H locs ls hP hD hS hl hm
  obtain ⟨fs, x, ⟨hm1, hm2⟩, hx, h⟩ := q
  obtain ⟨q0, hq0⟩ := sn_pl_at (Lo := Lo) (w := w) hm1 hm2
  exact va_getN hO.1 hO.2.1 hO.2.2.2.2.2.2.1 hin hO.2.2.2.2.2.1 hO.2.2.2.2.2.2.2.1 hP q0 hq0 hcl i hi (va_Nw.use rfl (hq _ _ _ _ hO.2.2.2.2.2.2.2.2.2.2.1)) (fun _ h => h) hx hd (kk x h H locs ls hP hD hS hl hm)
theorem sn_ogetKN (hO : sn_Ok Lo w C own cc nL ret tb nm) {index ci i c0 a k : Nat} {cs : List Nat} {fin : Bool} {ty : FieldType} (hf : sn_FcN Lo own index ci cs i c0 fin ty) (hd : decode cc pc = .ok (.getfield index, 3))
    (kk : P → sn_G Lo w R Q E C mc ms (pc + 3) lv (.ref (w.2.2.1 k) :: rest) S) : sn_gK w S a ci i k P → sn_G Lo w R Q E C mc ms pc lv (.ref a :: rest) S := by
  obtain ⟨CN, host, T, N, tyf, hin, hty, hnm, hcl, hi, hc, hq, hfin, hd2⟩ := hf
  obtain ⟨p, e, s, m, args, below, meth, c, A0⟩ := C
  intro q H locs ls hP hD hS hl hm
  obtain ⟨fs, ⟨hm1, hm2⟩, hx, h⟩ := q
  obtain ⟨q0, hq0⟩ := sn_pl_at (Lo := Lo) (w := w) hm1 hm2
  exact va_getN hO.1 hO.2.1 hO.2.2.2.2.2.2.1 hin hO.2.2.2.2.2.1 hO.2.2.2.2.2.2.2.1 hP q0 hq0 hcl i hi (va_Nw.use rfl (hq _ _ _ _ hO.2.2.2.2.2.2.2.2.2.2.1)) (fun _ h => h) hx hd (kk h H locs ls hP hD hS hl hm)
theorem sn_oputN (hO : sn_Ok Lo w C own cc nL ret tb nm) {index ci i c0 a : Nat} {cs : List Nat} {ty : FieldType} {v : Value} {K : sn_S → Prop} (hf : sn_FcN Lo own index ci cs i c0 false ty) (hn : narrow ty v = v) (hfit : fits ty v = true) (hd : decode cc pc = .ok (.putfield index, 3))
    (kk : ∀ S1 : sn_S, K S1 → sn_G Lo w R Q E C mc ms (pc + 3) lv rest S1) : sn_sV S a ci i v K → sn_G Lo w R Q E C mc ms pc lv (v :: .ref a :: rest) S := by
  obtain ⟨CN, host, T, N, tyf, hin, hty, hnm, hcl, hi, hc, hq, hfin, hd2⟩ := hf
  obtain ⟨p, e, s, m, args, below, meth, c, A0⟩ := C
  intro q H locs ls hP hD hS hl hm
  obtain ⟨fs, ⟨hm1, hm2⟩, hx, h⟩ := q
  obtain ⟨q0, hq0⟩ := sn_pl_at (Lo := Lo) (w := w) hm1 hm2
  refine va_putN hO.1 hO.2.1 hO.2.2.2.2.2.2.1 hin tyf hty hnm hO.2.2.2.2.2.1 hO.2.2.2.2.2.2.2.1 hP hD hS q0 hq0 hcl i hi (va_Nw.use rfl (hq _ _ _ _ hO.2.2.2.2.2.2.2.2.2.2.1)) (fun _ h => h) hfin hd2 hn hfit hx hd (fun H1 locs1 hP1 hD1 hS1 => ?_)
  rw [sn_pl_set _ hD hm1 hm2 hq0] at hP1 hD1
  exact kk _ h H1 locs1 ls hP1 hD1 hS1 hl hm
theorem sn_oiald (hO : sn_Ok Lo w C own cc nL ret tb nm) {t a : Nat} {i : Int32} {K : Int32 → Prop} (ht : Lo.2.2.2.1[t]? = some .int) (hd : decode cc pc = .ok (.iaload, 1))
    (kk : ∀ x : Int32, K x → sn_G Lo w R Q E C mc ms (pc + 1) lv (.int x :: rest) S) : sn_aI w S a t i K → sn_G Lo w R Q E C mc ms pc lv (.int i :: .ref a :: rest) S := by
  obtain ⟨p, e, s, m, args, below, meth, c, A0⟩ := C
  intro q H locs ls hP hD hS hl hm
  obtain ⟨n, g, ⟨hm1, hm2⟩, hx, h⟩ := q
  obtain ⟨q0, hq0⟩ := sn_pl_at (Lo := Lo) (w := w) hm1 hm2
  exact va_iald hO.1 hO.2.1 hO.2.2.2.2.2.2.2.1 hP q0 t hq0 (sn_ty_get w ht) hx hd (kk _ h H locs ls hP hD hS hl hm)
theorem sn_obald (hO : sn_Ok Lo w C own cc nL ret tb nm) {t a : Nat} {i : Int32} {K : Int32 → Prop} (ht : Lo.2.2.2.1[t]? = some .byte) (hd : decode cc pc = .ok (.baload, 1))
    (kk : ∀ x : Int32, K x → sn_G Lo w R Q E C mc ms (pc + 1) lv (.int x :: rest) S) : sn_aI w S a t i K → sn_G Lo w R Q E C mc ms pc lv (.int i :: .ref a :: rest) S := by
  obtain ⟨p, e, s, m, args, below, meth, c, A0⟩ := C
  intro q H locs ls hP hD hS hl hm
  obtain ⟨n, g, ⟨hm1, hm2⟩, hx, h⟩ := q
  obtain ⟨q0, hq0⟩ := sn_pl_at (Lo := Lo) (w := w) hm1 hm2
  exact va_bald hO.1 hO.2.1 hO.2.2.2.2.2.2.2.1 hP q0 t hq0 (sn_ty_get w ht) hx hd (kk _ h H locs ls hP hD hS hl hm)
theorem sn_ozald (hO : sn_Ok Lo w C own cc nL ret tb nm) {t a : Nat} {i : Int32} {K : Int32 → Prop} (ht : Lo.2.2.2.1[t]? = some .boolean) (hd : decode cc pc = .ok (.baload, 1))
    (kk : ∀ x : Int32, K x → sn_G Lo w R Q E C mc ms (pc + 1) lv (.int x :: rest) S) : sn_aI w S a t i K → sn_G Lo w R Q E C mc ms pc lv (.int i :: .ref a :: rest) S := by
  obtain ⟨p, e, s, m, args, below, meth, c, A0⟩ := C
  intro q H locs ls hP hD hS hl hm
  obtain ⟨n, g, ⟨hm1, hm2⟩, hx, h⟩ := q
  obtain ⟨q0, hq0⟩ := sn_pl_at (Lo := Lo) (w := w) hm1 hm2
  exact va_zald hO.1 hO.2.1 hO.2.2.2.2.2.2.2.1 hP q0 t hq0 (sn_ty_get w ht) hx hd (kk _ h H locs ls hP hD hS hl hm)
theorem sn_oaldq (hO : sn_Ok Lo w C own cc nL ret tb nm) {t a : Nat} {i : Int32} {CN : String} {K : Option Nat → Prop} (ht : Lo.2.2.2.1[t]? = some (.object CN)) (hd : decode cc pc = .ok (.aaload, 1))
    (kk : ∀ x : Option Nat, K x → sn_G Lo w R Q E C mc ms (pc + 1) lv (va_rf x :: rest) S) : sn_aQ w S a t i K → sn_G Lo w R Q E C mc ms pc lv (.int i :: .ref a :: rest) S := by
  obtain ⟨p, e, s, m, args, below, meth, c, A0⟩ := C
  intro q H locs ls hP hD hS hl hm
  obtain ⟨n, g, ⟨hm1, hm2⟩, hx, h⟩ := q
  obtain ⟨q0, hq0⟩ := sn_pl_at (Lo := Lo) (w := w) hm1 hm2
  exact va_aldq hO.1 hO.2.1 hO.2.2.2.2.2.2.2.1 hP q0 t hq0 (sn_ty_get w ht) hx hd (kk _ h H locs ls hP hD hS hl hm)
theorem sn_oiast (hO : sn_Ok Lo w C own cc nL ret tb nm) {t a : Nat} {i x : Int32} {K : sn_S → Prop} (ht : Lo.2.2.2.1[t]? = some .int) (hd : decode cc pc = .ok (.iastore, 1))
    (kk : ∀ S1 : sn_S, K S1 → sn_G Lo w R Q E C mc ms (pc + 1) lv rest S1) : sn_uI w S a t i x K → sn_G Lo w R Q E C mc ms pc lv (.int x :: .int i :: .ref a :: rest) S := by
  obtain ⟨p, e, s, m, args, below, meth, c, A0⟩ := C
  intro q H locs ls hP hD hS hl hm
  obtain ⟨n, g, ⟨hm1, hm2⟩, hx, h⟩ := q
  obtain ⟨q0, hq0⟩ := sn_pl_at (Lo := Lo) (w := w) hm1 hm2
  refine va_iast hO.1 hO.2.1 hO.2.2.2.2.2.2.2.1 hP hD hS q0 t hq0 (sn_ty_get w ht) hx hd (fun H1 locs1 hP1 hD1 hS1 => ?_)
  rw [sn_pl_set _ hD hm1 hm2 hq0] at hP1 hD1
  exact kk _ h H1 locs1 ls hP1 hD1 hS1 hl hm
theorem sn_oastN (hO : sn_Ok Lo w C own cc nL ret tb nm) {t a : Nat} {i : Int32} {CN : String} {K : sn_S → Prop} (ht : Lo.2.2.2.1[t]? = some (.object CN)) (hd : decode cc pc = .ok (.aastore, 1))
    (kk : ∀ S1 : sn_S, K S1 → sn_G Lo w R Q E C mc ms (pc + 1) lv rest S1) : sn_uQ w S a t i none K → sn_G Lo w R Q E C mc ms pc lv (.null :: .int i :: .ref a :: rest) S := by
  obtain ⟨p, e, s, m, args, below, meth, c, A0⟩ := C
  intro q H locs ls hP hD hS hl hm
  obtain ⟨n, g, ⟨hm1, hm2⟩, hx, h⟩ := q
  obtain ⟨q0, hq0⟩ := sn_pl_at (Lo := Lo) (w := w) hm1 hm2
  refine va_astqN hO.1 hO.2.1 hO.2.2.2.2.2.2.2.1 hP hD hS q0 t hq0 (sn_ty_get w ht) hx hd (fun H1 locs1 hP1 hD1 hS1 => ?_)
  rw [sn_pl_set _ hD hm1 hm2 hq0] at hP1 hD1
  exact kk _ h H1 locs1 ls hP1 hD1 hS1 hl hm
/-- whatever lies in the pool may lie in a row of CN -/
def sn_Any (Lo : sn_Lo) (CN : String) : Prop := ∀ (w : sn_W) (A : Nat → Prop) (U : State) (H : Heap), Lo.2.2.2.2 w A U H → ∀ (ci : Nat) (r : vw_C), Lo.2.2.1[ci]? = some r → va_Nw (.castable r.1 CN) U
theorem sn_oast (hO : sn_Ok Lo w C own cc nL ret tb nm) {t a ci v : Nat} {i : Int32} {CN : String} {r : vw_C} {fs : List Value} {K : sn_S → Prop} (ht : Lo.2.2.2.1[t]? = some (.object CN)) (hci : Lo.2.2.1[ci]? = some r) (hca : ∀ (w : sn_W) (A : Nat → Prop) (U : State) (H : Heap), Lo.2.2.2.2 w A U H → va_Nw (.castable r.1 CN) U) (hv : sn_oO S v ci fs) (hd : decode cc pc = .ok (.aastore, 1))
    (kk : ∀ S1 : sn_S, K S1 → sn_G Lo w R Q E C mc ms (pc + 1) lv rest S1) : sn_uQ w S a t i (some v) K → sn_G Lo w R Q E C mc ms pc lv (.ref v :: .int i :: .ref a :: rest) S := by
  obtain ⟨p, e, s, m, args, below, meth, c, A0⟩ := C
  intro q H locs ls hP hD hS hl hm
  obtain ⟨n, g, ⟨hm1, hm2⟩, hx, h⟩ := q
  obtain ⟨q0, hq0⟩ := sn_pl_at (Lo := Lo) (w := w) hm1 hm2
  obtain ⟨q1, hq1⟩ := sn_pl_at (Lo := Lo) (w := w) hv.1 hv.2
  refine va_astqO hO.1 hO.2.1 hO.2.2.2.2.2.2.2.1 hP hD hS q0 t q1 ci hq0 (sn_ty_get w ht) (hca _ _ _ _ hO.2.2.2.2.2.2.2.2.2.2.1) hq1 hci hx hd (fun H1 locs1 hP1 hD1 hS1 => ?_)
  rw [sn_pl_set _ hD hm1 hm2 hq0] at hP1 hD1
  exact kk _ h H1 locs1 ls hP1 hD1 hS1 hl hm
theorem sn_aast (hO : sn_Ok Lo w C own cc nL ret tb nm) {k t n ci v : Nat} {i : Int32} {r : vw_C} {fs : List Value} (hat : sn_At Lo k (.inr (t, n, 2))) (ht : Lo.2.2.2.1[t]? = some (.object r.1)) (hci : Lo.2.2.1[ci]? = some r) (hv : P → sn_oO S v ci fs) (hd : decode cc pc = .ok (.aastore, 1))
    (kk : P → sn_G Lo w R Q E C mc ms (pc + 1) lv rest (sn_pR S k i.toNatClampNeg (some v))) : (vp_in i n ∧ P) → sn_G Lo w R Q E C mc ms pc lv (.ref v :: .int i :: .ref (w.2.2.1 k) :: rest) S := by
  obtain ⟨p, e, s, m, args, below, meth, c, A0⟩ := C
  intro q H locs ls hP hD hS hl hm
  obtain ⟨q1, hq1⟩ := sn_pl_at (Lo := Lo) (w := w) (hv q.2).1 (hv q.2).2
  refine va_astq hO.1 hO.2.1 hO.2.2.2.2.2.2.2.1 hP hD hS k t q1 ci (sn_ws_get w S hat.1 hat.2) (sn_ty_get w ht) hq1 hci q.1 hd (fun H1 locs1 hP1 hD1 hS1 => ?_)
  rw [sn_set_pQ w S _ hat.1 hat.2] at hP1 hD1
  exact kk q.2 H1 locs1 ls hP1 hD1 hS1 hl hm
theorem sn_oalen (hO : sn_Ok Lo w C own cc nL ret tb nm) {t a : Nat} {ty : FieldType} {K : Int32 → Prop} (ht : Lo.2.2.2.1[t]? = some ty) (hd : decode cc pc = .ok (.arraylength, 1))
    (kk : ∀ x : Int32, K x → sn_G Lo w R Q E C mc ms (pc + 1) lv (.int x :: rest) S) : sn_al w S a t K → sn_G Lo w R Q E C mc ms pc lv (.ref a :: rest) S := by
  obtain ⟨p, e, s, m, args, below, meth, c, A0⟩ := C
  intro q H locs ls hP hD hS hl hm
  obtain ⟨n, x, ⟨hm1, hm2⟩, h⟩ := q
  obtain ⟨q0, hq0⟩ := sn_pl_at (Lo := Lo) (w := w) hm1 hm2
  exact va_alen hO.1 hO.2.1 hO.2.2.2.2.2.2.2.1 hP q0 t hq0 (sn_ty_get w ht) rfl hd (kk _ h H locs ls hP hD hS hl hm)
theorem sn_null (hO : sn_Ok Lo w C own cc nL ret tb nm) (hd : decode cc pc = .ok (.aconst_null, 1)) (k : P → sn_G Lo w R Q E C mc ms (pc + 1) lv (.null :: rest) S) : P → sn_G Lo w R Q E C mc ms pc lv rest S := by
  obtain ⟨p, e, s, m, args, below, meth, c, A0⟩ := C
  intro q H locs ls hP hD hS hl hm
  exact lv_null hO.1 hO.2.1 hd (k q H locs ls hP hD hS hl hm)
theorem sn_ifnull (hO : sn_Ok Lo w C own cc nL ret tb nm) {off : Int} (tgt : Nat) (ht : (pc : Int) + off = (tgt : Int)) {r : Option Nat} {K : Nat → Prop} (hd : decode cc pc = .ok (.ifnull off, 3)) (kn : A → sn_G Lo w R Q E C mc ms tgt lv rest S) (ks : ∀ a : Nat, K a → sn_G Lo w R Q E C mc ms (pc + 3) lv rest S) : ((r = none → A) ∧ (∀ a : Nat, r = some a → K a)) → sn_G Lo w R Q E C mc ms pc lv (va_rf r :: rest) S := by
  obtain ⟨p, e, s, m, args, below, meth, c, A0⟩ := C
  intro q H locs ls hP hD hS hl hm
  cases r with
  | none => exact lv_ifnullN hO.1 hO.2.1 hd ht (kn (q.1 rfl) H locs ls hP hD hS hl hm)
  | some a => exact lv_ifnull hO.1 hO.2.1 hd (ks a (q.2 a rfl) H locs ls hP hD hS hl hm)
theorem sn_ifnonnull (hO : sn_Ok Lo w C own cc nL ret tb nm) {off : Int} (tgt : Nat) (ht : (pc : Int) + off = (tgt : Int)) {r : Option Nat} {K : Nat → Prop} (hd : decode cc pc = .ok (.ifnonnull off, 3)) (kn : A → sn_G Lo w R Q E C mc ms (pc + 3) lv rest S) (ks : ∀ a : Nat, K a → sn_G Lo w R Q E C mc ms tgt lv rest S) : ((r = none → A) ∧ (∀ a : Nat, r = some a → K a)) → sn_G Lo w R Q E C mc ms pc lv (va_rf r :: rest) S := by
  obtain ⟨p, e, s, m, args, below, meth, c, A0⟩ := C
  intro q H locs ls hP hD hS hl hm
  cases r with
  | none => exact lv_ifnonnullN hO.1 hO.2.1 hd (kn (q.1 rfl) H locs ls hP hD hS hl hm)
  | some a => exact lv_ifnonnull hO.1 hO.2.1 hd ht (ks a (q.2 a rfl) H locs ls hP hD hS hl hm)
theorem sn_aload_nQ (hO : sn_Ok Lo w C own cc nL ret tb nm) {n : Fin 4} {r : Option Nat} (j : Nat) (hj : lv[j]? = some ((n : Nat), va_rf r)) (hd : decode cc pc = .ok (.aload_n n, 1)) (k : P → sn_G Lo w R Q E C mc ms (pc + 1) lv (va_rf r :: rest) S) : P → sn_G Lo w R Q E C mc ms pc lv rest S := by
  obtain ⟨p, e, s, m, args, below, meth, c, A0⟩ := C
  intro q H locs ls hP hD hS hl hm
  cases r with
  | none => exact lv_aload_nN hO.1 hO.2.1 hd rfl (lv_at hl j hj) (k q H locs ls hP hD hS hl hm)
  | some a => exact lv_aload_n hO.1 hO.2.1 hd rfl (lv_at hl j hj) (k q H locs ls hP hD hS hl hm)
theorem sn_astore_nQ (hO : sn_Ok Lo w C own cc nL ret tb nm) {n : Fin 4} {r : Option Nat} (hn : (n : Nat) < nL) (hf : ((n : Nat), va_rf r) :: lv.filter (fun q => !(q.1 == (n : Nat)) && !(q.1 + 1 == (n : Nat) && q.2.category == 2)) = lv') (hd : decode cc pc = .ok (.astore_n n, 1)) (k : P → sn_G Lo w R Q E C mc ms (pc + 1) lv' rest S) : P → sn_G Lo w R Q E C mc ms pc lv (va_rf r :: rest) S := by
  obtain ⟨p, e, s, m, args, below, meth, c, A0⟩ := C
  intro q H locs ls hP hD hS hl hm
  cases r with
  | none => exact lv_astore_nN hO.1 hO.2.1 hd rfl (by rw [← hO.2.2.1]; exact hl) hn hf (fun ls hl => k q H locs ls hP hD hS (by rw [hO.2.2.1]; exact hl) hm)
  | some a => exact lv_astore_n hO.1 hO.2.1 hd rfl (by rw [← hO.2.2.1]; exact hl) hn hf (fun ls hl => k q H locs ls hP hD hS (by rw [hO.2.2.1]; exact hl) hm)
theorem sn_aloadQ (hO : sn_Ok Lo w C own cc nL ret tb nm) {n : Nat} {r : Option Nat} (j : Nat) (hj : lv[j]? = some (n, va_rf r)) (hd : decode cc pc = .ok (.aload n, 2)) (k : P → sn_G Lo w R Q E C mc ms (pc + 2) lv (va_rf r :: rest) S) : P → sn_G Lo w R Q E C mc ms pc lv rest S := by
  obtain ⟨p, e, s, m, args, below, meth, c, A0⟩ := C
  intro q H locs ls hP hD hS hl hm
  cases r with
  | none => exact lv_aloadN hO.1 hO.2.1 hd (lv_at hl j hj) (k q H locs ls hP hD hS hl hm)
  | some a => exact lv_aload hO.1 hO.2.1 hd (lv_at hl j hj) (k q H locs ls hP hD hS hl hm)
theorem sn_astoreQ (hO : sn_Ok Lo w C own cc nL ret tb nm) {n : Nat} {r : Option Nat} (hn : n < nL) (hf : (n, va_rf r) :: lv.filter (fun q => !(q.1 == n) && !(q.1 + 1 == n && q.2.category == 2)) = lv') (hd : decode cc pc = .ok (.astore n, 2)) (k : P → sn_G Lo w R Q E C mc ms (pc + 2) lv' rest S) : P → sn_G Lo w R Q E C mc ms pc lv (va_rf r :: rest) S := by
  obtain ⟨p, e, s, m, args, below, meth, c, A0⟩ := C
  intro q H locs ls hP hD hS hl hm
  cases r with
  | none => exact lv_astoreN hO.1 hO.2.1 hd (by rw [← hO.2.2.1]; exact hl) hn hf (fun ls hl => k q H locs ls hP hD hS (by rw [hO.2.2.1]; exact hl) hm)
  | some a => exact lv_astore hO.1 hO.2.1 hd (by rw [← hO.2.2.1]; exact hl) hn hf (fun ls hl => k q H locs ls hP hD hS (by rw [hO.2.2.1]; exact hl) hm)
theorem sn_acmp_eq (hO : sn_Ok Lo w C own cc nL ret tb nm) {rx ry : Option Nat} {off : Int} (tgt : Nat) (ht : (pc : Int) + off = (tgt : Int)) (hd : decode cc pc = .ok (.if_acmp .eq off, 3)) (kt : A → sn_G Lo w R Q E C mc ms tgt lv rest S) (kf : B → sn_G Lo w R Q E C mc ms (pc + 3) lv rest S) : ((rx = ry → A) ∧ (¬ rx = ry → B)) → sn_G Lo w R Q E C mc ms pc lv (va_rf ry :: va_rf rx :: rest) S := by
  obtain ⟨p, e, s, m, args, below, meth, c, A0⟩ := C
  intro q H locs ls hP hD hS hl hm
  exact lv_acmp_eq hO.1 hO.2.1 hd ht (fun h => kt (q.1 h) H locs ls hP hD hS hl hm) (fun h => kf (q.2 h) H locs ls hP hD hS hl hm)
theorem sn_acmp_ne (hO : sn_Ok Lo w C own cc nL ret tb nm) {rx ry : Option Nat} {off : Int} (tgt : Nat) (ht : (pc : Int) + off = (tgt : Int)) (hd : decode cc pc = .ok (.if_acmp .ne off, 3)) (kt : A → sn_G Lo w R Q E C mc ms tgt lv rest S) (kf : B → sn_G Lo w R Q E C mc ms (pc + 3) lv rest S) : ((¬ rx = ry → A) ∧ (rx = ry → B)) → sn_G Lo w R Q E C mc ms pc lv (va_rf ry :: va_rf rx :: rest) S := by
  obtain ⟨p, e, s, m, args, below, meth, c, A0⟩ := C
  intro q H locs ls hP hD hS hl hm
  exact lv_acmp_ne hO.1 hO.2.1 hd ht (fun h => kt (q.1 h) H locs ls hP hD hS hl hm) (fun h => kf (q.2 h) H locs ls hP hD hS hl hm)
theorem sn_cast (hO : sn_Ok Lo w C own cc nL ret tb nm) {index a ci : Nat} {CN nx : String} {T : u_T} {N : Nat} (hv : P → sn_Rv Lo w S a ci) (hci : Lo.2.2.1[ci]? = some (CN, T, N)) (hlink : Cond.classLink own index nx ∈ lw_all) (hca : ∀ (w : sn_W) (A : Nat → Prop) (U : State) (H : Heap), Lo.2.2.2.2 w A U H → va_Nw (.castable CN nx) U) (hd : decode cc pc = .ok (.checkcast index, 3)) (k : P → sn_G Lo w R Q E C mc ms (pc + 3) lv (.ref a :: rest) S) : P → sn_G Lo w R Q E C mc ms pc lv (.ref a :: rest) S := by
  obtain ⟨p, e, s, m, args, below, meth, c, A0⟩ := C
  intro q H locs ls hP hD hS hl hm
  obtain ⟨q0, fs, hq0⟩ := hv q
  exact va_castY hO.1 hO.2.1 hO.2.2.2.2.2.1 (hO.2.2.2.2.2.2.1 _ hlink) (hca _ _ _ _ hO.2.2.2.2.2.2.2.2.2.2.1) (va_recv hO.2.2.2.2.2.2.2.1 hP hci hq0) hd (k q H locs ls hP hD hS hl hm)
theorem sn_castX (hO : sn_Ok Lo w C own cc nL ret tb nm) {index a ci : Nat} {CN : String} {T : u_T} {N : Nat} (hv : P → sn_Rv Lo w S a ci) (hci : Lo.2.2.1[ci]? = some (CN, T, N)) (hlink : Cond.classLink own index CN ∈ lw_all) (hd : decode cc pc = .ok (.checkcast index, 3)) (k : P → sn_G Lo w R Q E C mc ms (pc + 3) lv (.ref a :: rest) S) : P → sn_G Lo w R Q E C mc ms pc lv (.ref a :: rest) S := by
  obtain ⟨p, e, s, m, args, below, meth, c, A0⟩ := C
  intro q H locs ls hP hD hS hl hm
  obtain ⟨q0, fs, hq0⟩ := hv q
  exact va_castE hO.1 hO.2.1 hO.2.2.2.2.2.1 (hO.2.2.2.2.2.2.1 _ hlink) (va_recv hO.2.2.2.2.2.2.2.1 hP hci hq0) hd (k q H locs ls hP hD hS hl hm)
theorem sn_new (hO : sn_Ok Lo w C own cc nL ret tb nm) {index ci N : Nat} {CN : String} {T : u_T} (ty : Nat → FieldType) {fs : List Value} {K : Nat → sn_S → Prop} (hin : ∀ v ∈ u_ws CN T N, v ∈ lw_all) (hty : ∀ k, k < N → parseFieldDescriptor (T k).2.2.1 = some (ty k)) (hcl : Cond.classLink own index CN ∈ lw_all) (hinst : Cond.instantiable CN N ∈ lw_all) (hini : Cond.initialized CN ∈ lw_all) (hci : Lo.2.2.1[ci]? = some (CN, T, N)) (hfs : ∀ j, j < N → defaultValue (ty j) = vp_V fs j) (hd : decode cc pc = .ok (.new index, 3))
    (kk : ∀ (a : Nat) (S1 : sn_S), K a S1 → sn_G Lo w R Q E C (mc - 1) (ms - N) (pc + 3) lv (.ref a :: rest) S1) : sn_nw S mc ms N (.inr (ci, fs)) K → sn_G Lo w R Q E C mc ms pc lv rest S := by
  obtain ⟨p, e, s, m, args, below, meth, c, A0⟩ := C
  intro q H locs ls hP hD hS hl hm
  obtain ⟨h1, h2, h⟩ := q
  obtain ⟨hx, hb, hml, hr, hlk, ho, hts, hK, hA, hX, hX0, htb, hnm⟩ := hO
  refine va_new hx hb hts hin ty hty ho (hts _ hcl) (hts _ hinst) (hts _ hini) hK hP hD hS hA hci hfs (by omega) (by omega) hd (fun a H1 hP1 hD1 hS1 => ?_)
  have hf : a ∉ S.2.2.2.1 := by
    intro ha
    obtain ⟨k, hk⟩ := va_pl_get (X := sn_fx Lo w S) (f := S.2.2.2.2) ha
    have hk : (sn_ws Lo w S)[k]? = some (a, S.2.2.2.2 a) := hk
    have hlt := (List.getElem?_eq_some_iff.mp hk).1
    have e1 := hD1.1 k (sn_ws Lo w S).length (a, S.2.2.2.2 a) (a, .inr (ci, fs)) (by rw [List.getElem?_append_left hlt]; exact hk) (by rw [List.getElem?_append_right (Nat.le_refl _)]; simp) rfl
    omega
  rw [sn_pl_push hf] at hP1 hD1
  exact W.widen (by omega) (by omega) (kk a _ (h a hf) H1 locs ls hP1 hD1 hS1 hl ⟨by omega, by omega⟩)
theorem sn_ty_cls {U : State} {t : Nat} {ty : FieldType} {cA : ClassId} (hK : va_K w.1 Lo.2.2.1 (sn_ty Lo w) U) (ht : Lo.2.2.2.1[t]? = some ty) (h : U.vm.findClass ("[" ++ ty.toString) = some cA) : cA = w.2.1 t := by
  have h2 := (hK.2 t _ (sn_ty_get w ht)).2
  cases ty with
  | object CN =>
    obtain ⟨kA, comp, g1, g2, g3, g4⟩ := h2
    exact Option.some.inj (h.symm.trans g4)
  | _ => exact Option.some.inj (h.symm.trans h2)
theorem sn_newa (hO : sn_Ok Lo w C own cc nL ret tb nm) {t N : Nat} (atype : ArrayType) {ty : FieldType} {n : Int32} {K : Nat → sn_S → Prop} (a0 : (Nat → Int32) ⊕ (Nat → Int64) ⊕ (Nat → UInt32) ⊕ (Nat → UInt64) ⊕ (Nat → Option Nat)) (harr : Cond.arrayClass (newarray.typeOf atype) ∈ lw_all) (hty : newarray.typeOf atype = ty) (ht : Lo.2.2.2.1[t]? = some ty) (ha : ∀ cA : ClassId, vp_cell cA (N, a0) = arrV cA N (fun _ => defaultValue ty)) (hn : ¬ n < 0) (hN : n.toNatClampNeg = N) (hby : N * componentBytes ty ≤ 536870912) (hd : decode cc pc = .ok (.newarray atype, 2))
    (kk : ∀ (a : Nat) (S1 : sn_S), K a S1 → sn_G Lo w R Q E C (mc - 1) (ms - N) (pc + 2) lv (.ref a :: rest) S1) : sn_nw S mc ms N (.inl (w.2.1 t, N, a0)) K → sn_G Lo w R Q E C mc ms pc lv (.int n :: rest) S := by
  obtain ⟨p, e, s, m, args, below, meth, c, A0⟩ := C
  intro q H locs ls hP hD hS hl hm
  obtain ⟨h1, h2, h⟩ := q
  obtain ⟨hx, hb, hml, hr, hlk, ho, hts, hK, hA, hX, hX0, htb, hnm⟩ := hO
  refine va_newa (a0 := (N, a0)) hx hb (hts _ harr) hty hK hP hD hS hA ha hn hN hby (by omega) (by omega) hd (fun a cA H1 hK1 hP1 hD1 hS1 => ?_)
  have hf : a ∉ S.2.2.2.1 := by
    intro ha
    obtain ⟨k, hk⟩ := va_pl_get (X := sn_fx Lo w S) (f := S.2.2.2.2) ha
    have hk : (sn_ws Lo w S)[k]? = some (a, S.2.2.2.2 a) := hk
    have hlt := (List.getElem?_eq_some_iff.mp hk).1
    have e1 := hD1.1 k (sn_ws Lo w S).length (a, S.2.2.2.2 a) (a, .inl (cA, N, a0)) (by rw [List.getElem?_append_left hlt]; exact hk) (by rw [List.getElem?_append_right (Nat.le_refl _)]; simp) rfl
    omega
  have hcA : cA = w.2.1 t := by
    have g := (hK1.2 (sn_ty Lo w).length (cA, ty) (by rw [List.getElem?_append_right (Nat.le_refl _)]; simp)).2
    subst hty
    refine sn_ty_cls hK ht ?_
    cases atype <;> exact g
  subst hcA
  rw [sn_pl_push hf] at hP1 hD1
  exact W.widen (by omega) (by omega) (kk a _ (h a hf) H1 locs ls hP1 hD1 hS1 hl ⟨by omega, by omega⟩)
theorem sn_newq (hO : sn_Ok Lo w C own cc nL ret tb nm) {index t : Nat} {n : Int32} {CN : String} {K : Nat → sn_S → Prop} (hcl : Cond.classLink own index CN ∈ lw_all) (hov : ∀ (w : sn_W) (A : Nat → Prop) (U : State) (H : Heap), Lo.2.2.2.2 w A U H → va_AO CN U) (ht : Lo.2.2.2.1[t]? = some (.object CN)) (hd : decode cc pc = .ok (.anewarray index, 3))
    (kk : ∀ (a : Nat) (S1 : sn_S), K a S1 → sn_G Lo w R Q E C (mc - 1) (ms - n.toNatClampNeg) (pc + 3) lv (.ref a :: rest) S1) : (¬ n < 0 ∧ n.toNatClampNeg * 4 ≤ 536870912 ∧ sn_nw S mc ms n.toNatClampNeg (.inl (w.2.1 t, n.toNatClampNeg, .inr (.inr (.inr (.inr (fun _ => none)))))) K) → sn_G Lo w R Q E C mc ms pc lv (.int n :: rest) S := by
  obtain ⟨p, e, s, m, args, below, meth, c, A0⟩ := C
  intro q H locs ls hP hD hS hl hm
  obtain ⟨hn, hby, h1, h2, h⟩ := q
  obtain ⟨hx, hb, hml, hr, hlk, ho, hts, hK, hA, hX, hX0, htb, hnm⟩ := hO
  refine va_newq hx hb ho (hts _ hcl) (hov _ _ _ _ hX0) hK hP hD hS hA hn rfl hby (by omega) (by omega) hd (fun a cA H1 hK1 hP1 hD1 hS1 => ?_)
  have hf : a ∉ S.2.2.2.1 := by
    intro ha
    obtain ⟨k, hk⟩ := va_pl_get (X := sn_fx Lo w S) (f := S.2.2.2.2) ha
    have hk : (sn_ws Lo w S)[k]? = some (a, S.2.2.2.2 a) := hk
    have hlt := (List.getElem?_eq_some_iff.mp hk).1
    have e1 := hD1.1 k (sn_ws Lo w S).length (a, S.2.2.2.2 a) (a, .inl (cA, n.toNatClampNeg, .inr (.inr (.inr (.inr (fun _ => none)))))) (by rw [List.getElem?_append_left hlt]; exact hk) (by rw [List.getElem?_append_right (Nat.le_refl _)]; simp) rfl
    omega
  have hcA : cA = w.2.1 t := by
    have g := (hK1.2 (sn_ty Lo w).length (cA, .object CN) (by rw [List.getElem?_append_right (Nat.le_refl _)]; simp)).2
    obtain ⟨kA, comp, g1, g2, g3, g4⟩ := g
    exact sn_ty_cls hK ht g4
  subst hcA
  rw [sn_pl_push hf] at hP1 hD1
  exact W.widen (by omega) (by omega) (kk a _ (h a hf) H1 locs ls hP1 hD1 hS1 hl ⟨by omega, by omega⟩)
theorem sn_gets (hO : sn_Ok Lo w C own cc nL ret tb nm) {index : Nat} {C0 n0 d0 : String} {v : Value} (hz : ∀ (w : sn_W) (A : Nat → Prop) (U : State) (H : Heap), Lo.2.2.2.2 w A U H → va_Z C0 n0 d0 v A U H) (hlink : Cond.fieldLink own index C0 n0 d0 ∈ lw_all) (hd : decode cc pc = .ok (.getstatic index, 3)) (k : P → sn_G Lo w R Q E C mc ms (pc + 3) lv (v :: rest) S) : P → sn_G Lo w R Q E C mc ms pc lv rest S := by
  obtain ⟨p, e, s, m, args, below, meth, c, A0⟩ := C
  intro q H locs ls hP hD hS hl hm
  obtain ⟨hx, hb, hml, hr, hlk, ho, hts, hK, hA, hX, hX0, htb, hnm⟩ := hO
  exact va_gets hx hb (hz _ _ _ _ hX0) hS ho (hts _ hlink) (fun _ h => h) hd (k q H locs ls hP hD hS hl hm)
theorem sn_getsQ (hO : sn_Ok Lo w C own cc nL ret tb nm) {index : Nat} {C0 n0 d0 : String} {K : Option Nat → Prop} (hz : ∀ (w : sn_W) (A : Nat → Prop) (U : State) (H : Heap), Lo.2.2.2.2 w A U H → va_Zq C0 n0 d0 A U H) (hlink : Cond.fieldLink own index C0 n0 d0 ∈ lw_all) (hd : decode cc pc = .ok (.getstatic index, 3)) (k : ∀ r : Option Nat, K r → sn_G Lo w R Q E C mc ms (pc + 3) lv (va_rf r :: rest) S) : (∀ r : Option Nat, K r) → sn_G Lo w R Q E C mc ms pc lv rest S := by
  obtain ⟨p, e, s, m, args, below, meth, c, A0⟩ := C
  intro q H locs ls hP hD hS hl hm
  obtain ⟨hx, hb, hml, hr, hlk, ho, hts, hK, hA, hX, hX0, htb, hnm⟩ := hO
  rcases hz _ _ _ _ hX0 with h | ⟨t, h⟩
  · exact va_gets hx hb h hS ho (hts _ hlink) (fun _ h => h) hd (k none (q none) H locs ls hP hD hS hl hm)
  · exact va_gets hx hb h hS ho (hts _ hlink) (fun _ h => h) hd (k (some t) (q (some t)) H locs ls hP hD hS hl hm)
theorem sn_ldcS (hO : sn_Ok Lo w C own cc nL ret tb nm) {index i : Nat} {tx : String} (hz : ∀ (w : sn_W) (A : Nat → Prop) (U : State) (H : Heap), Lo.2.2.2.2 w A U H → vk_R own index tx (w.2.2.2.2.1 i) U) (hd : decode cc pc = .ok (.ldc index, 2)) (k : P → sn_G Lo w R Q E C mc ms (pc + 2) lv (.ref (w.2.2.2.2.1 i) :: rest) S) : P → sn_G Lo w R Q E C mc ms pc lv rest S := by
  obtain ⟨p, e, s, m, args, below, meth, c, A0⟩ := C
  intro q H locs ls hP hD hS hl hm
  obtain ⟨hx, hb, hml, hr, hlk, ho, hts, hK, hA, hX, hX0, htb, hnm⟩ := hO
  exact va_ldcS hx hb ho (hz _ _ _ _ hX0) hd (k q H locs ls hP hD hS hl hm)
theorem sn_ldcM (hO : sn_Ok Lo w C own cc nL ret tb nm) {index : Nat} {CN : String} (hz : ∀ (w : sn_W) (A : Nat → Prop) (U : State) (H : Heap), Lo.2.2.2.2 w A U H → va_Mi CN w.2.2.2.2.2.2 U) (hlink : Cond.classLink own index CN ∈ lw_all) (hd : decode cc pc = .ok (.ldc index, 2)) (k : P → sn_G Lo w R Q E C mc ms (pc + 2) lv (.ref w.2.2.2.2.2.2 :: rest) S) : P → sn_G Lo w R Q E C mc ms pc lv rest S := by
  obtain ⟨p, e, s, m, args, below, meth, c, A0⟩ := C
  intro q H locs ls hP hD hS hl hm
  obtain ⟨hx, hb, hml, hr, hlk, ho, hts, hK, hA, hX, hX0, htb, hnm⟩ := hO
  exact va_ldcM hx hb ho (hts _ hlink) (hz _ _ _ _ hX0) hd (k q H locs ls hP hD hS hl hm)
end SNP
