/-! THE ROW LAYER: the machine's rows once more, over an abstract state of the world (sn_S), a world's layout (sn_Lo) and a pool of further cells. A row turns 'P → the machine at the next instruction' into 'P → the machine at this one', where P is what is owed in plain Lean. -/
set_option maxRecDepth 100000
/-- a cell of the fixed part: an object (its class's number, its fields' codes), or an array (its type's number, its length, what it holds) -/
abbrev sn_Kd : Type := (Nat × List Nat) ⊕ (Nat × Nat × Nat)
/-- the state: ints, longs, references by cell and place; the pool's addresses, and what lies there -/
abbrev sn_S : Type := (Nat → Nat → Int32) × (Nat → Nat → Int64) × (Nat → Nat → Option Nat) × List Nat × (Nat → va_E)
/-- the world's names: classes, array classes, addresses of the fixed cells, the launch, the String constants, their bytes, the class object of Object[] -/
abbrev sn_W : Type := va_G × (Nat → ClassId) × (Nat → Nat) × Launch × (Nat → Nat) × (Nat → Nat) × Nat
/-- a layout: how many fixed cells, of which kinds; the classes; the array types; what is known besides -/
abbrev sn_Lo : Type := Nat × (Nat → sn_Kd) × List vw_C × List FieldType × (sn_W → (Nat → Prop) → State → Heap → Prop)
def sn_fv (hs : Nat → Nat) (S : sn_S) (k i c : Nat) : Value := match c with
  | 0 => .int (S.1 k i)
  | 1 => .long (S.2.1 k i)
  | 2 => va_rf (S.2.2.1 k i)
  | j + 3 => .ref (hs j)
def sn_fs (hs : Nat → Nat) (S : sn_S) (k : Nat) (cs : List Nat) : List Value := cs.mapIdx (fun i c => sn_fv hs S k i c)
def sn_ac (hs : Nat → Nat) (S : sn_S) (k c : Nat) : (Nat → Int32) ⊕ (Nat → Int64) ⊕ (Nat → UInt32) ⊕ (Nat → UInt64) ⊕ (Nat → Option Nat) := match c with
  | 0 => .inl (S.1 k)
  | 1 => .inr (.inl (S.2.1 k))
  | 2 => .inr (.inr (.inr (.inr (S.2.2.1 k))))
  | j + 3 => .inr (.inr (.inr (.inr (fun i => some (hs (j + 5 * i))))))
def sn_ce (w : sn_W) (S : sn_S) (k : Nat) (kd : sn_Kd) : va_E := match kd with
  | .inl x => .inr (x.1, sn_fs w.2.2.1 S k x.2)
  | .inr x => .inl (w.2.1 x.1, x.2.1, sn_ac w.2.2.1 S k x.2.2)
def sn_fx (Lo : sn_Lo) (w : sn_W) (S : sn_S) : va_W := (List.range Lo.1).map (fun k => (w.2.2.1 k, sn_ce w S k (Lo.2.1 k)))
def sn_ws (Lo : sn_Lo) (w : sn_W) (S : sn_S) : va_W := sn_fx Lo w S ++ va_pl S.2.2.2.1 S.2.2.2.2
def sn_ty (Lo : sn_Lo) (w : sn_W) : List (ClassId × FieldType) := Lo.2.2.2.1.mapIdx (fun t ty => (w.2.1 t, ty))
theorem sn_ty_get {Lo : sn_Lo} (w : sn_W) {t : Nat} {ty : FieldType} (h : Lo.2.2.2.1[t]? = some ty) : (sn_ty Lo w)[t]? = some (w.2.1 t, ty) := by
  simp [sn_ty, List.getElem?_mapIdx, h]
theorem sn_fs_get (hs : Nat → Nat) (S : sn_S) (k : Nat) {cs : List Nat} {i c : Nat} (h : cs[i]? = some c) : (sn_fs hs S k cs)[i]? = some (sn_fv hs S k i c) := by
  simp [sn_fs, List.getElem?_mapIdx, h]
theorem sn_fx_get {Lo : sn_Lo} (w : sn_W) (S : sn_S) {k : Nat} {kd : sn_Kd} (hk : k < Lo.1) (h : Lo.2.1 k = kd) : (sn_fx Lo w S)[k]? = some (w.2.2.1 k, sn_ce w S k kd) := by
  subst h
  simp [sn_fx, hk]
theorem sn_fx_len (Lo : sn_Lo) (w : sn_W) (S : sn_S) : (sn_fx Lo w S).length = Lo.1 := by simp [sn_fx]
theorem sn_ws_get {Lo : sn_Lo} (w : sn_W) (S : sn_S) {k : Nat} {kd : sn_Kd} (hk : k < Lo.1) (h : Lo.2.1 k = kd) : (sn_ws Lo w S)[k]? = some (w.2.2.1 k, sn_ce w S k kd) := by
  rw [sn_ws, List.getElem?_append_left (by rw [sn_fx_len]; exact hk)]
  exact sn_fx_get w S hk h
/-- a fixed cell anew: the others stay -/
theorem sn_ws_set {Lo : sn_Lo} (w : sn_W) {S S' : sn_S} {k : Nat} {e : va_E} (hk : k < Lo.1) (he : sn_ce w S' k (Lo.2.1 k) = e) (ho : ∀ j kd, j ≠ k → sn_ce w S' j kd = sn_ce w S j kd) (hp : S'.2.2.2 = S.2.2.2) : (sn_ws Lo w S).set k (w.2.2.1 k, e) = sn_ws Lo w S' := by
  rw [sn_ws, sn_ws, hp, List.set_append_left _ _ (by rw [sn_fx_len]; exact hk)]
  congr 1
  apply List.ext_getElem?
  intro j
  rw [List.getElem?_set]
  by_cases hjk : k = j
  · subst hjk
    simp only [sn_fx_len, hk, if_true]
    rw [sn_fx_get w S' hk rfl, he]
  · rw [if_neg hjk]
    by_cases hj : j < Lo.1
    · rw [sn_fx_get w S hj rfl, sn_fx_get w S' hj rfl, ho j _ (fun e => hjk e.symm)]
    · rw [List.getElem?_eq_none (by rw [sn_fx_len]; omega), List.getElem?_eq_none (by rw [sn_fx_len]; omega)]
def sn_pI (S : sn_S) (k i : Nat) (v : Int32) : sn_S := (va_up S.1 k (upd (S.1 k) i v), S.2)
def sn_pJ (S : sn_S) (k i : Nat) (v : Int64) : sn_S := (S.1, va_up S.2.1 k (vp_updL (S.2.1 k) i v), S.2.2)
def sn_pR (S : sn_S) (k i : Nat) (v : Option Nat) : sn_S := (S.1, S.2.1, va_up S.2.2.1 k (va_up (S.2.2.1 k) i v), S.2.2.2)
/-- a whole row of ints anew -/
def sn_pA (S : sn_S) (k : Nat) (f : Nat → Int32) : sn_S := (va_up S.1 k f, S.2)
theorem sn_ce_ne {w : sn_W} {S S' : sn_S} {j : Nat} (h1 : S'.1 j = S.1 j) (h2 : S'.2.1 j = S.2.1 j) (h3 : S'.2.2.1 j = S.2.2.1 j) (kd : sn_Kd) : sn_ce w S' j kd = sn_ce w S j kd := by
  have hf : (fun i c => sn_fv w.2.2.1 S' j i c) = (fun i c => sn_fv w.2.2.1 S j i c) := by
    funext i c
    match c with
    | 0 => simp [sn_fv, h1]
    | 1 => simp [sn_fv, h2]
    | 2 => simp [sn_fv, h3]
    | c + 3 => rfl
  have ha : ∀ c, sn_ac w.2.2.1 S' j c = sn_ac w.2.2.1 S j c := by
    intro c
    match c with
    | 0 => simp [sn_ac, h1]
    | 1 => simp [sn_ac, h2]
    | 2 => simp [sn_ac, h3]
    | c + 3 => rfl
  cases kd with
  | inl x => simp only [sn_ce, sn_fs, hf]
  | inr x => simp only [sn_ce, ha]
theorem sn_fs_set (hs : Nat → Nat) {S S' : sn_S} {k : Nat} {cs : List Nat} {i c : Nat} {v : Value} (h : cs[i]? = some c) (hv : sn_fv hs S' k i c = v) (ho : ∀ j d, j ≠ i → sn_fv hs S' k j d = sn_fv hs S k j d) : (sn_fs hs S k cs).set i v = sn_fs hs S' k cs := by
  apply List.ext_getElem?
  intro j
  have hil : i < cs.length := (List.getElem?_eq_some_iff.mp h).1
  rw [List.getElem?_set]
  by_cases hij : i = j
  · subst hij
    rw [if_pos rfl, sn_fs_get hs S' k h, hv, if_pos (by simpa [sn_fs] using hil)]
  · rw [if_neg hij]
    cases hc : cs[j]? with
    | none => simp [sn_fs, List.getElem?_mapIdx, hc]
    | some d => rw [sn_fs_get hs S k hc, sn_fs_get hs S' k hc, ho j d (fun e => hij e.symm)]
theorem sn_pI_ne (S : sn_S) {k j : Nat} (i : Nat) (v : Int32) (h : j ≠ k) : (sn_pI S k i v).1 j = S.1 j := by simp [sn_pI, va_up, h]
theorem sn_pI_eq (S : sn_S) (k i : Nat) (v : Int32) : (sn_pI S k i v).1 k = upd (S.1 k) i v := by simp [sn_pI, va_up]
theorem sn_pJ_ne (S : sn_S) {k j : Nat} (i : Nat) (v : Int64) (h : j ≠ k) : (sn_pJ S k i v).2.1 j = S.2.1 j := by simp [sn_pJ, va_up, h]
theorem sn_pJ_eq (S : sn_S) (k i : Nat) (v : Int64) : (sn_pJ S k i v).2.1 k = vp_updL (S.2.1 k) i v := by simp [sn_pJ, va_up]
theorem sn_pR_ne (S : sn_S) {k j : Nat} (i : Nat) (v : Option Nat) (h : j ≠ k) : (sn_pR S k i v).2.2.1 j = S.2.2.1 j := by simp [sn_pR, va_up, h]
theorem sn_pR_eq (S : sn_S) (k i : Nat) (v : Option Nat) : (sn_pR S k i v).2.2.1 k = va_up (S.2.2.1 k) i v := by simp [sn_pR, va_up]
theorem sn_pA_ne (S : sn_S) {k j : Nat} (f : Nat → Int32) (h : j ≠ k) : (sn_pA S k f).1 j = S.1 j := by simp [sn_pA, va_up, h]
theorem sn_pA_eq (S : sn_S) (k : Nat) (f : Nat → Int32) : (sn_pA S k f).1 k = f := by simp [sn_pA, va_up]
theorem sn_set_pI {Lo : sn_Lo} (w : sn_W) (S : sn_S) {k i ci : Nat} {cs : List Nat} (v : Int32) (hk : k < Lo.1) (hd : Lo.2.1 k = .inl (ci, cs)) (hc : cs[i]? = some 0) : (sn_ws Lo w S).set k (w.2.2.1 k, .inr (ci, (sn_fs w.2.2.1 S k cs).set i (.int v))) = sn_ws Lo w (sn_pI S k i v) := by
  refine sn_ws_set w hk ?_ (fun j kd hj => sn_ce_ne (S := S) (S' := sn_pI S k i v) (sn_pI_ne S i v hj) rfl rfl kd) rfl
  rw [hd]
  simp only [sn_ce]
  rw [sn_fs_set w.2.2.1 (S' := sn_pI S k i v) hc (by simp [sn_fv, sn_pI_eq, upd]) ?_]
  intro j d hj
  match d with
  | 0 => simp [sn_fv, sn_pI_eq, upd, hj]
  | 1 => rfl
  | 2 => rfl
  | d + 3 => rfl
theorem sn_set_pJ {Lo : sn_Lo} (w : sn_W) (S : sn_S) {k i ci : Nat} {cs : List Nat} (v : Int64) (hk : k < Lo.1) (hd : Lo.2.1 k = .inl (ci, cs)) (hc : cs[i]? = some 1) : (sn_ws Lo w S).set k (w.2.2.1 k, .inr (ci, (sn_fs w.2.2.1 S k cs).set i (.long v))) = sn_ws Lo w (sn_pJ S k i v) := by
  refine sn_ws_set w hk ?_ (fun j kd hj => sn_ce_ne (S := S) (S' := sn_pJ S k i v) rfl (sn_pJ_ne S i v hj) rfl kd) rfl
  rw [hd]
  simp only [sn_ce]
  rw [sn_fs_set w.2.2.1 (S' := sn_pJ S k i v) hc (by simp [sn_fv, sn_pJ_eq, vp_updL]) ?_]
  intro j d hj
  match d with
  | 0 => rfl
  | 1 => simp [sn_fv, sn_pJ_eq, vp_updL, hj]
  | 2 => rfl
  | d + 3 => rfl
theorem sn_set_pR {Lo : sn_Lo} (w : sn_W) (S : sn_S) {k i ci : Nat} {cs : List Nat} (v : Option Nat) (hk : k < Lo.1) (hd : Lo.2.1 k = .inl (ci, cs)) (hc : cs[i]? = some 2) : (sn_ws Lo w S).set k (w.2.2.1 k, .inr (ci, (sn_fs w.2.2.1 S k cs).set i (va_rf v))) = sn_ws Lo w (sn_pR S k i v) := by
  refine sn_ws_set w hk ?_ (fun j kd hj => sn_ce_ne (S := S) (S' := sn_pR S k i v) rfl rfl (sn_pR_ne S i v hj) kd) rfl
  rw [hd]
  simp only [sn_ce]
  rw [sn_fs_set w.2.2.1 (S' := sn_pR S k i v) hc (by simp [sn_fv, sn_pR_eq, va_up]) ?_]
  intro j d hj
  match d with
  | 0 => rfl
  | 1 => rfl
  | 2 => simp [sn_fv, sn_pR_eq, va_up, hj]
  | d + 3 => rfl
theorem sn_set_pA {Lo : sn_Lo} (w : sn_W) (S : sn_S) {k t n : Nat} (f : Nat → Int32) (hk : k < Lo.1) (hd : Lo.2.1 k = .inr (t, n, 0)) : (sn_ws Lo w S).set k (w.2.2.1 k, .inl (w.2.1 t, n, .inl f)) = sn_ws Lo w (sn_pA S k f) := by
  refine sn_ws_set w hk ?_ (fun j kd hj => sn_ce_ne (S := S) (S' := sn_pA S k f) (sn_pA_ne S f hj) rfl rfl kd) rfl
  rw [hd]
  simp only [sn_ce, sn_ac, sn_pA_eq]
theorem sn_set_pL {Lo : sn_Lo} (w : sn_W) (S : sn_S) {k t n i : Nat} (v : Int64) (hk : k < Lo.1) (hd : Lo.2.1 k = .inr (t, n, 1)) : (sn_ws Lo w S).set k (w.2.2.1 k, .inl (w.2.1 t, n, .inr (.inl (vp_updL (S.2.1 k) i v)))) = sn_ws Lo w (sn_pJ S k i v) := by
  refine sn_ws_set w hk ?_ (fun j kd hj => sn_ce_ne (S := S) (S' := sn_pJ S k i v) rfl (sn_pJ_ne S i v hj) rfl kd) rfl
  rw [hd]
  simp only [sn_ce, sn_ac, sn_pJ_eq]
theorem sn_set_pQ {Lo : sn_Lo} (w : sn_W) (S : sn_S) {k t n i : Nat} (v : Option Nat) (hk : k < Lo.1) (hd : Lo.2.1 k = .inr (t, n, 2)) : (sn_ws Lo w S).set k (w.2.2.1 k, .inl (w.2.1 t, n, .inr (.inr (.inr (.inr (va_up (S.2.2.1 k) i v)))))) = sn_ws Lo w (sn_pR S k i v) := by
  refine sn_ws_set w hk ?_ (fun j kd hj => sn_ce_ne (S := S) (S' := sn_pR S k i v) rfl rfl (sn_pR_ne S i v hj) kd) rfl
  rw [hd]
  simp only [sn_ce, sn_ac, sn_pR_eq]
/-- what a walk stands on -/
abbrev sn_C : Type := Program × Env × State × MethodId × Array Value × List Frame × Method × Code × (Nat → Prop)
/-- a method's end -/
def sn_Q (Lo : sn_Lo) (w : sn_W) (A : Nat → Prop) (Q : Option Value → sn_S → Prop) : Array Value → State → Outcome → State → Prop := fun _ st oc t => (∃ (v : Option Value) (S : sn_S), oc = .returned v ∧ Q v S ∧ va_P w.1 Lo.2.2.1 (sn_ws Lo w S) t.heap ∧ va_D A (sn_ws Lo w S)) ∧ va_F A st t
/-- what is said of a throw: the class's name, the object, the state -/
abbrev sn_E : Type := String → Nat → sn_S → Prop
def sn_noE : sn_E := fun _ _ _ => False
def sn_XC (Lo : sn_Lo) (w : sn_W) (A : Nat → Prop) (E : sn_E) : String → Addr → State → State → Prop := fun cl q st t => (∃ S : sn_S, E cl q S ∧ va_P w.1 Lo.2.2.1 (sn_ws Lo w S) t.heap ∧ va_D A (sn_ws Lo w S)) ∧ va_F A st t
/-- from the state S, at pc, with these locals and this stack, room for mc cells and ms slots left, the machine comes to the method's end with Q, or to a throw with E -/
def sn_G (Lo : sn_Lo) (w : sn_W) (R : Room) (Q : Option Value → sn_S → Prop) (E : sn_E) (C : sn_C) (mc ms pc : Nat) (lv : List (Nat × Value)) (st : List Value) (S : sn_S) : Prop :=
  match C with
  | (p, e, s, m, args, below, meth, c, A) => ∀ (H : Heap) (locs : List Loc) (ls : Array Slot), va_P w.1 Lo.2.2.1 (sn_ws Lo w S) H → va_D A (sn_ws Lo w S) → va_S A s.heap H locs → lv_has ls c.maxLocals lv → mc ≤ R.cells ∧ ms ≤ R.slots → W p w.2.2.2.1 e R s m args below meth c H locs (R.cells - mc) (R.slots - ms) (vx_MQ below (sn_Q Lo w A Q) (sn_XC Lo w A E) args s R.cells R.slots A) (F0 m pc ls st)
/-- the same with the object q of the class cl thrown at pc -/
def sn_X (Lo : sn_Lo) (w : sn_W) (R : Room) (Q : Option Value → sn_S → Prop) (E : sn_E) (C : sn_C) (mc ms pc : Nat) (lv : List (Nat × Value)) (cl : String) (q : Nat) (S : sn_S) : Prop :=
  match C with
  | (p, e, s, m, args, below, meth, c, A) => ∀ (H : Heap) (locs : List Loc) (ls : Array Slot) (st : List Value), va_P w.1 Lo.2.2.1 (sn_ws Lo w S) H → va_D A (sn_ws Lo w S) → va_S A s.heap H locs → lv_has ls c.maxLocals lv → mc ≤ R.cells ∧ ms ≤ R.slots → (∃ ce : Cell, H[q]? = some ce ∧ ce.vm = .none ∧ s.vm.findClass cl = some ce.cls) → vx_W p w.2.2.2.1 e R s m args below meth c H locs (R.cells - mc) (R.slots - ms) (vx_MQ below (sn_Q Lo w A Q) (sn_XC Lo w A E) args s R.cells R.slots A) (F0 m pc ls st) q
/-- what is known besides stays -/
def sn_XO (X : (Nat → Prop) → State → Heap → Prop) : Prop := (∀ (A : Nat → Prop) (s U : State) (H : Heap), s.WarmedH U.vm → X A s H → X A U H) ∧ (∀ (A : Nat → Prop) (U : State) (H H1 : Heap), (∀ q : Nat, q < H.size → ¬ A q → H1[q]? = H[q]?) → X A U H → X A U H1) ∧ (∀ (A B : Nat → Prop) (U : State) (H : Heap), (∀ q : Nat, B q → A q) → X A U H → X B U H)
/-- what holds all through a method's walk (tb: its table of handlers, nm: its name) -/
def sn_Ok (Lo : sn_Lo) (w : sn_W) (C : sn_C) (own : String) (cc : ByteArray) (nL : Nat) (ret : Option FieldType) (tb : List ExceptionTableEntry) (nm : String) : Prop :=
  match C with
  | (p, _, s, m, args, _, meth, c, A) => p.tables.exec = Jvm.exec ∧ c.code = cc ∧ c.maxLocals = nL ∧ meth.sig.returnType = ret ∧ meth.locks = false ∧ s.vm.findClass own = some m.cls ∧ (∀ v ∈ lw_all, v.before args s = true) ∧ va_K w.1 Lo.2.2.1 (sn_ty Lo w) s ∧ (∀ q : Nat, s.heap.size ≤ q → A q) ∧ sn_XO (Lo.2.2.2.2 w) ∧ Lo.2.2.2.2 w A s s.heap ∧ c.exceptionTable.toList = tb ∧ meth.name = nm
/-- a contract -/
def sn_Ct (Lo : sn_Lo) (w : sn_W) (y : MethodName) (ws : List Cond) (rm : Room) (vs : List Value) (S : sn_S) (Q : Option Value → sn_S → Prop) (E : sn_E) : Prop :=
  ∀ sz : Nat, vx_Met w.2.2.2.1 y ws rm (va_Pc vs (fun U => U.heap.size = sz ∧ va_P w.1 Lo.2.2.1 (sn_ws Lo w S) U.heap ∧ va_K w.1 Lo.2.2.1 (sn_ty Lo w) U ∧ va_D (fun _ => True) (sn_ws Lo w S) ∧ Lo.2.2.2.2 w (va_A (sn_ws Lo w S) sz) U U.heap)) (sn_Q Lo w (va_A (sn_ws Lo w S) sz) Q) (sn_XC Lo w (va_A (sn_ws Lo w S) sz) E) rm.cells rm.slots (va_A (sn_ws Lo w S) sz)
theorem sn_Ct_of {Lo : sn_Lo} {w : sn_W} {y : MethodName} {cc : ByteArray} {nL : Nat} {ret : Option FieldType} {rm : Room} {vs : List Value} {S : sn_S} {Q : Option Value → sn_S → Prop} {E : sn_E} (hX : sn_XO (Lo.2.2.2.2 w)) (hy : plainName y.cls = true) (hn : (lg_sl vs).length ≤ nL) (own : String) (ho : y.cls = own) (hwalk : ∀ C : sn_C, sn_Ok Lo w C own cc nL ret [] y.name → sn_G Lo w rm Q E C rm.cells rm.slots 0 (lv_args 0 vs) [] S) : sn_Ct Lo w y (ws_ y cc nL ret) rm vs S Q E := by
  subst ho
  intro sz
  refine vx_ofW (cc := cc) (maxL := nL) (ret := ret) hy rfl ?_
  intro p e s m args below meth c s₁ B hml htb hv
  obtain ⟨rfl, hsz, hP, hK, hD0, hX0⟩ := hv
  have hts := atoms_spec (ws := ws_ y cc nL ret) B.pre
  have hts : ∀ v ∈ lw_all, v.before _ s = true := fun v h => hts v (List.mem_cons_of_mem _ h)
  subst hsz
  have hD := hD0.self (sz := s.heap.size)
  have hl := lv_entry vs (n := nL) hn
  rw [lg_entry_eq]
  have htb : c.exceptionTable.toList = [] := by
    cases h : c.exceptionTable.toList with
    | nil => rfl
    | cons x l => exact absurd (htb x (by rw [h]; exact List.mem_cons_self)) (fun h => h)
  have h := hwalk (p, e, s, m, vs.toArray, below, meth, c, va_A (sn_ws Lo w S) s.heap.size) ⟨B.exec, B.bytes, hml, B.returns, B.notSynchronized, findClass_of_methodNamed B.named, hts, hK, fun q h => Or.inr h, hX, hX0, htb, (name_of_methodNamed B.named B.method).1⟩
  have h := h s.heap [] _ hP hD va_S.rf (by rw [hml]; exact hl) ⟨Nat.le_refl _, Nat.le_refl _⟩
  rw [Nat.sub_self, Nat.sub_self] at h
  exact h
/-- the same of a method with handlers -/
theorem sn_Ct_ofW {Lo : sn_Lo} {w : sn_W} {y : MethodName} {cc : ByteArray} {nL : Nat} {ret : Option FieldType} {hh : List (Nat × Nat × Nat × Nat)} {rm : Room} {vs : List Value} {S : sn_S} {Q : Option Value → sn_S → Prop} {E : sn_E} (hX : sn_XO (Lo.2.2.2.2 w)) (hy : plainName y.cls = true) (hn : (lg_sl vs).length ≤ nL) (own : String) (ho : y.cls = own) (hwalk : ∀ C : sn_C, sn_Ok Lo w C own cc nL ret (tableOf hh) y.name → sn_G Lo w rm Q E C rm.cells rm.slots 0 (lv_args 0 vs) [] S) : sn_Ct Lo w y (wsW_ y cc nL ret hh) rm vs S Q E := by
  subst ho
  intro sz
  refine vx_ofWH (cc := cc) (maxL := nL) (ret := ret) (hh := hh) hy rfl ?_
  intro p e s m args below meth c s₁ B hml hv
  obtain ⟨rfl, hsz, hP, hK, hD0, hX0⟩ := hv
  have hts0 := atoms_spec (ws := wsW_ y cc nL ret hh) B.pre
  have hts : ∀ v ∈ lw_all, v.before _ s = true := fun v h => hts0 v (List.mem_cons_of_mem _ h)
  have htb := vx_table (x := y) B (hts0 _ List.mem_cons_self)
  subst hsz
  have hD := hD0.self (sz := s.heap.size)
  have hl := lv_entry vs (n := nL) hn
  rw [lg_entry_eq]
  have h := hwalk (p, e, s, m, vs.toArray, below, meth, c, va_A (sn_ws Lo w S) s.heap.size) ⟨B.exec, B.bytes, hml, B.returns, B.notSynchronized, findClass_of_methodNamed B.named, hts, hK, fun q h => Or.inr h, hX, hX0, htb, (name_of_methodNamed B.named B.method).1⟩
  have h := h s.heap [] _ hP hD va_S.rf (by rw [hml]; exact hl) ⟨Nat.le_refl _, Nat.le_refl _⟩
  rw [Nat.sub_self, Nat.sub_self] at h
  exact h
def sn_qI (P : Int32 → sn_S → Prop) : Option Value → sn_S → Prop := fun v S => ∃ r : Int32, v = some (.int r) ∧ P r S
def sn_qL (P : Int64 → sn_S → Prop) : Option Value → sn_S → Prop := fun v S => ∃ r : Int64, v = some (.long r) ∧ P r S
def sn_qV (P : sn_S → Prop) : Option Value → sn_S → Prop := fun v S => v = none ∧ P S
def sn_qA (P : Nat → sn_S → Prop) : Option Value → sn_S → Prop := fun v S => ∃ r : Nat, v = some (.ref r) ∧ P r S
def sn_qR (P : Option Nat → sn_S → Prop) : Option Value → sn_S → Prop := fun v S => ∃ r : Option Nat, v = some (va_rf r) ∧ P r S
/-- a value, a state named -/
def sn_lt {α : Sort _} (x : α) (P : α → Prop) : Prop := P x
/-- where ways meet -/
def sn_jn {κ : Sort _} (K : κ) (B : κ → Prop) : Prop := B K
theorem sn_jn_walk {κ : Sort _} {K : κ} {B : κ → Prop} {X : Prop} (Gd : κ → Prop) (hK : Gd K) (hB : ∀ k : κ, Gd k → B k → X) : sn_jn K B → X := fun h => hB K hK h
theorem sn_jn_by {κ : Sort _} {K : κ} {B : κ → Prop} (Gd : κ → Prop) (hK : Gd K) (hB : ∀ k : κ, Gd k → B k) : sn_jn K B := hB K hK
section SNR
variable {Lo : sn_Lo} {w : sn_W} {R : Room} {Q : Option Value → sn_S → Prop} {E : sn_E} {C : sn_C} {own nm : String} {cc : ByteArray} {nL : Nat} {ret : Option FieldType} {tb : List ExceptionTableEntry} {mc ms pc : Nat} {lv lv' : List (Nat × Value)} {rest st : List Value} {S : sn_S} {P A B : Prop}
theorem sn_top {x y : Value} (h : x = y) (k : P → sn_G Lo w R Q E C mc ms pc lv (y :: rest) S) : P → sn_G Lo w R Q E C mc ms pc lv (x :: rest) S := h ▸ k
theorem sn_nmI {x : Int32} {K : Int32 → Prop} (k : ∀ v : Int32, K v → sn_G Lo w R Q E C mc ms pc lv (.int v :: rest) S) : sn_lt x K → sn_G Lo w R Q E C mc ms pc lv (.int x :: rest) S := fun h => k x h
theorem sn_nmL {x : Int64} {K : Int64 → Prop} (k : ∀ v : Int64, K v → sn_G Lo w R Q E C mc ms pc lv (.long v :: rest) S) : sn_lt x K → sn_G Lo w R Q E C mc ms pc lv (.long x :: rest) S := fun h => k x h
theorem sn_nmS {S0 : sn_S} {K : sn_S → Prop} (k : ∀ S : sn_S, K S → sn_G Lo w R Q E C mc ms pc lv st S) : sn_lt S0 K → sn_G Lo w R Q E C mc ms pc lv st S0 := fun h => k S0 h
theorem sn_sub (ks : List Nat) (h : lv_pick lv ks = lv') (k : P → sn_G Lo w R Q E C mc ms pc lv' st S) : P → sn_G Lo w R Q E C mc ms pc lv st S := by
  obtain ⟨p, e, s, m, args, below, meth, c, A0⟩ := C
  intro q H locs ls hP hD hS hl hm
  exact k q H locs ls hP hD hS (lv_sub hl ks h) hm
theorem sn_iconst (hO : sn_Ok Lo w C own cc nL ret tb nm) {n : Int} {v : Int32} (hv : Int32.ofInt n = v) (hd : decode cc pc = .ok (.iconst n, 1))
    (k : P → sn_G Lo w R Q E C mc ms (pc + 1) lv (.int v :: rest) S) : P → sn_G Lo w R Q E C mc ms pc lv rest S := by
  obtain ⟨p, e, s, m, args, below, meth, c, A0⟩ := C
  intro q H locs ls hP hD hS hl hm
  exact lv_iconst hO.1 hO.2.1 hd hv (k q H locs ls hP hD hS hl hm)
theorem sn_bipush (hO : sn_Ok Lo w C own cc nL ret tb nm) {n : Int} {v : Int32} (hv : (Int8.ofInt n).toInt32 = v) (hd : decode cc pc = .ok (.bipush n, 2))
    (k : P → sn_G Lo w R Q E C mc ms (pc + 2) lv (.int v :: rest) S) : P → sn_G Lo w R Q E C mc ms pc lv rest S := by
  obtain ⟨p, e, s, m, args, below, meth, c, A0⟩ := C
  intro q H locs ls hP hD hS hl hm
  exact lv_bipush hO.1 hO.2.1 hd hv (k q H locs ls hP hD hS hl hm)
theorem sn_sipush (hO : sn_Ok Lo w C own cc nL ret tb nm) {n : Int} {v : Int32} (hv : (Int16.ofInt n).toInt32 = v) (hd : decode cc pc = .ok (.sipush n, 3))
    (k : P → sn_G Lo w R Q E C mc ms (pc + 3) lv (.int v :: rest) S) : P → sn_G Lo w R Q E C mc ms pc lv rest S := by
  obtain ⟨p, e, s, m, args, below, meth, c, A0⟩ := C
  intro q H locs ls hP hD hS hl hm
  exact lv_sipush hO.1 hO.2.1 hd hv (k q H locs ls hP hD hS hl hm)
theorem sn_lconst (hO : sn_Ok Lo w C own cc nL ret tb nm) {n : Fin 2} {v : Int64} (hv : Int64.ofNat (n : Nat) = v) (hd : decode cc pc = .ok (.lconst n, 1))
    (k : P → sn_G Lo w R Q E C mc ms (pc + 1) lv (.long v :: rest) S) : P → sn_G Lo w R Q E C mc ms pc lv rest S := by
  obtain ⟨p, e, s, m, args, below, meth, c, A0⟩ := C
  intro q H locs ls hP hD hS hl hm
  exact lv_lconst hO.1 hO.2.1 hd hv (k q H locs ls hP hD hS hl hm)
theorem sn_iload_n (hO : sn_Ok Lo w C own cc nL ret tb nm) {n : Fin 4} {x : Int32} (j : Nat) (hj : lv[j]? = some ((n : Nat), .int x)) (hd : decode cc pc = .ok (.iload_n n, 1))
    (k : P → sn_G Lo w R Q E C mc ms (pc + 1) lv (.int x :: rest) S) : P → sn_G Lo w R Q E C mc ms pc lv rest S := by
  obtain ⟨p, e, s, m, args, below, meth, c, A0⟩ := C
  intro q H locs ls hP hD hS hl hm
  exact lv_iload_n hO.1 hO.2.1 hd rfl (lv_at hl j hj) (k q H locs ls hP hD hS hl hm)
theorem sn_iload (hO : sn_Ok Lo w C own cc nL ret tb nm) {n : Nat} {x : Int32} (j : Nat) (hj : lv[j]? = some (n, .int x)) (hd : decode cc pc = .ok (.iload n, 2))
    (k : P → sn_G Lo w R Q E C mc ms (pc + 2) lv (.int x :: rest) S) : P → sn_G Lo w R Q E C mc ms pc lv rest S := by
  obtain ⟨p, e, s, m, args, below, meth, c, A0⟩ := C
  intro q H locs ls hP hD hS hl hm
  exact lv_iload hO.1 hO.2.1 hd (lv_at hl j hj) (k q H locs ls hP hD hS hl hm)
theorem sn_lload_n (hO : sn_Ok Lo w C own cc nL ret tb nm) {n : Fin 4} {x : Int64} (j : Nat) (hj : lv[j]? = some ((n : Nat), .long x)) (hd : decode cc pc = .ok (.lload_n n, 1))
    (k : P → sn_G Lo w R Q E C mc ms (pc + 1) lv (.long x :: rest) S) : P → sn_G Lo w R Q E C mc ms pc lv rest S := by
  obtain ⟨p, e, s, m, args, below, meth, c, A0⟩ := C
  intro q H locs ls hP hD hS hl hm
  exact lv_lload_n hO.1 hO.2.1 hd rfl (lv_at hl j hj) (k q H locs ls hP hD hS hl hm)
theorem sn_lload (hO : sn_Ok Lo w C own cc nL ret tb nm) {n : Nat} {x : Int64} (j : Nat) (hj : lv[j]? = some (n, .long x)) (hd : decode cc pc = .ok (.lload n, 2))
    (k : P → sn_G Lo w R Q E C mc ms (pc + 2) lv (.long x :: rest) S) : P → sn_G Lo w R Q E C mc ms pc lv rest S := by
  obtain ⟨p, e, s, m, args, below, meth, c, A0⟩ := C
  intro q H locs ls hP hD hS hl hm
  exact lv_lload hO.1 hO.2.1 hd (lv_at hl j hj) (k q H locs ls hP hD hS hl hm)
theorem sn_aload_n (hO : sn_Ok Lo w C own cc nL ret tb nm) {n : Fin 4} {x : Nat} (j : Nat) (hj : lv[j]? = some ((n : Nat), .ref x)) (hd : decode cc pc = .ok (.aload_n n, 1))
    (k : P → sn_G Lo w R Q E C mc ms (pc + 1) lv (.ref x :: rest) S) : P → sn_G Lo w R Q E C mc ms pc lv rest S := by
  obtain ⟨p, e, s, m, args, below, meth, c, A0⟩ := C
  intro q H locs ls hP hD hS hl hm
  exact lv_aload_n hO.1 hO.2.1 hd rfl (lv_at hl j hj) (k q H locs ls hP hD hS hl hm)
theorem sn_aload (hO : sn_Ok Lo w C own cc nL ret tb nm) {n : Nat} {x : Nat} (j : Nat) (hj : lv[j]? = some (n, .ref x)) (hd : decode cc pc = .ok (.aload n, 2))
    (k : P → sn_G Lo w R Q E C mc ms (pc + 2) lv (.ref x :: rest) S) : P → sn_G Lo w R Q E C mc ms pc lv rest S := by
  obtain ⟨p, e, s, m, args, below, meth, c, A0⟩ := C
  intro q H locs ls hP hD hS hl hm
  exact lv_aload hO.1 hO.2.1 hd (lv_at hl j hj) (k q H locs ls hP hD hS hl hm)
theorem sn_istore_n (hO : sn_Ok Lo w C own cc nL ret tb nm) {n : Fin 4} {x : Int32} (hn : (n : Nat) < nL) (hf : ((n : Nat), Value.int x) :: lv.filter (fun q => !(q.1 == (n : Nat)) && !(q.1 + 1 == (n : Nat) && q.2.category == 2)) = lv') (hd : decode cc pc = .ok (.istore_n n, 1))
    (k : P → sn_G Lo w R Q E C mc ms (pc + 1) lv' rest S) : P → sn_G Lo w R Q E C mc ms pc lv (.int x :: rest) S := by
  obtain ⟨p, e, s, m, args, below, meth, c, A0⟩ := C
  intro q H locs ls hP hD hS hl hm
  exact lv_istore_n hO.1 hO.2.1 hd rfl (by rw [← hO.2.2.1]; exact hl) hn hf (fun ls hl => k q H locs ls hP hD hS (by rw [hO.2.2.1]; exact hl) hm)
theorem sn_istore (hO : sn_Ok Lo w C own cc nL ret tb nm) {n : Nat} {x : Int32} (hn : n < nL) (hf : (n, Value.int x) :: lv.filter (fun q => !(q.1 == n) && !(q.1 + 1 == n && q.2.category == 2)) = lv') (hd : decode cc pc = .ok (.istore n, 2))
    (k : P → sn_G Lo w R Q E C mc ms (pc + 2) lv' rest S) : P → sn_G Lo w R Q E C mc ms pc lv (.int x :: rest) S := by
  obtain ⟨p, e, s, m, args, below, meth, c, A0⟩ := C
  intro q H locs ls hP hD hS hl hm
  exact lv_istore hO.1 hO.2.1 hd (by rw [← hO.2.2.1]; exact hl) hn hf (fun ls hl => k q H locs ls hP hD hS (by rw [hO.2.2.1]; exact hl) hm)
theorem sn_lstore_n (hO : sn_Ok Lo w C own cc nL ret tb nm) {n : Fin 4} {x : Int64} (hn : (n : Nat) + 1 < nL) (hf : ((n : Nat), Value.long x) :: lv.filter (fun q => !(q.1 == (n : Nat)) && (!(q.1 == (n : Nat) + 1) && !(q.1 + 1 == (n : Nat) && q.2.category == 2))) = lv') (hd : decode cc pc = .ok (.lstore_n n, 1))
    (k : P → sn_G Lo w R Q E C mc ms (pc + 1) lv' rest S) : P → sn_G Lo w R Q E C mc ms pc lv (.long x :: rest) S := by
  obtain ⟨p, e, s, m, args, below, meth, c, A0⟩ := C
  intro q H locs ls hP hD hS hl hm
  exact lv_lstore_n hO.1 hO.2.1 hd rfl (by rw [← hO.2.2.1]; exact hl) hn hf (fun ls hl => k q H locs ls hP hD hS (by rw [hO.2.2.1]; exact hl) hm)
theorem sn_lstore (hO : sn_Ok Lo w C own cc nL ret tb nm) {n : Nat} {x : Int64} (hn : n + 1 < nL) (hf : (n, Value.long x) :: lv.filter (fun q => !(q.1 == n) && (!(q.1 == n + 1) && !(q.1 + 1 == n && q.2.category == 2))) = lv') (hd : decode cc pc = .ok (.lstore n, 2))
    (k : P → sn_G Lo w R Q E C mc ms (pc + 2) lv' rest S) : P → sn_G Lo w R Q E C mc ms pc lv (.long x :: rest) S := by
  obtain ⟨p, e, s, m, args, below, meth, c, A0⟩ := C
  intro q H locs ls hP hD hS hl hm
  exact lv_lstore hO.1 hO.2.1 hd (by rw [← hO.2.2.1]; exact hl) hn hf (fun ls hl => k q H locs ls hP hD hS (by rw [hO.2.2.1]; exact hl) hm)
theorem sn_astore_n (hO : sn_Ok Lo w C own cc nL ret tb nm) {n : Fin 4} {x : Nat} (hn : (n : Nat) < nL) (hf : ((n : Nat), Value.ref x) :: lv.filter (fun q => !(q.1 == (n : Nat)) && !(q.1 + 1 == (n : Nat) && q.2.category == 2)) = lv') (hd : decode cc pc = .ok (.astore_n n, 1))
    (k : P → sn_G Lo w R Q E C mc ms (pc + 1) lv' rest S) : P → sn_G Lo w R Q E C mc ms pc lv (.ref x :: rest) S := by
  obtain ⟨p, e, s, m, args, below, meth, c, A0⟩ := C
  intro q H locs ls hP hD hS hl hm
  exact lv_astore_n hO.1 hO.2.1 hd rfl (by rw [← hO.2.2.1]; exact hl) hn hf (fun ls hl => k q H locs ls hP hD hS (by rw [hO.2.2.1]; exact hl) hm)
theorem sn_astore (hO : sn_Ok Lo w C own cc nL ret tb nm) {n : Nat} {x : Nat} (hn : n < nL) (hf : (n, Value.ref x) :: lv.filter (fun q => !(q.1 == n) && !(q.1 + 1 == n && q.2.category == 2)) = lv') (hd : decode cc pc = .ok (.astore n, 2))
    (k : P → sn_G Lo w R Q E C mc ms (pc + 2) lv' rest S) : P → sn_G Lo w R Q E C mc ms pc lv (.ref x :: rest) S := by
  obtain ⟨p, e, s, m, args, below, meth, c, A0⟩ := C
  intro q H locs ls hP hD hS hl hm
  exact lv_astore hO.1 hO.2.1 hd (by rw [← hO.2.2.1]; exact hl) hn hf (fun ls hl => k q H locs ls hP hD hS (by rw [hO.2.2.1]; exact hl) hm)
theorem sn_iinc (hO : sn_Ok Lo w C own cc nL ret tb nm) {i : Nat} {n : Int} {x c : Int32} (j : Nat) (hj : lv[j]? = some (i, .int x)) (hc : Int32.ofInt n = c) (hn : i < nL) (hf : (i, Value.int (x + c)) :: lv.filter (fun q => !(q.1 == i) && !(q.1 + 1 == i && q.2.category == 2)) = lv') (hd : decode cc pc = .ok (.iinc i n, 3))
    (k : P → sn_G Lo w R Q E C mc ms (pc + 3) lv' rest S) : P → sn_G Lo w R Q E C mc ms pc lv rest S := by
  subst hc
  obtain ⟨p, e, s, m, args, below, meth, c, A0⟩ := C
  intro q H locs ls hP hD hS hl hm
  exact lv_iinc hO.1 hO.2.1 hd (by rw [← hO.2.2.1]; exact hl) hj rfl hn hf (fun ls hl => k q H locs ls hP hD hS (by rw [hO.2.2.1]; exact hl) hm)
theorem sn_iadd (hO : sn_Ok Lo w C own cc nL ret tb nm) {x y : Int32} (hd : decode cc pc = .ok (.iadd, 1))
    (k : P → sn_G Lo w R Q E C mc ms (pc + 1) lv (.int (x + y) :: rest) S) : P → sn_G Lo w R Q E C mc ms pc lv (.int y :: .int x :: rest) S := by
  obtain ⟨p, e, s, m, args, below, meth, c, A0⟩ := C
  intro q H locs ls hP hD hS hl hm
  exact lv_iadd hO.1 hO.2.1 hd (k q H locs ls hP hD hS hl hm)
theorem sn_isub (hO : sn_Ok Lo w C own cc nL ret tb nm) {x y : Int32} (hd : decode cc pc = .ok (.isub, 1))
    (k : P → sn_G Lo w R Q E C mc ms (pc + 1) lv (.int (x - y) :: rest) S) : P → sn_G Lo w R Q E C mc ms pc lv (.int y :: .int x :: rest) S := by
  obtain ⟨p, e, s, m, args, below, meth, c, A0⟩ := C
  intro q H locs ls hP hD hS hl hm
  exact lv_isub hO.1 hO.2.1 hd (k q H locs ls hP hD hS hl hm)
theorem sn_imul (hO : sn_Ok Lo w C own cc nL ret tb nm) {x y : Int32} (hd : decode cc pc = .ok (.imul, 1))
    (k : P → sn_G Lo w R Q E C mc ms (pc + 1) lv (.int (x * y) :: rest) S) : P → sn_G Lo w R Q E C mc ms pc lv (.int y :: .int x :: rest) S := by
  obtain ⟨p, e, s, m, args, below, meth, c, A0⟩ := C
  intro q H locs ls hP hD hS hl hm
  exact lv_imul hO.1 hO.2.1 hd (k q H locs ls hP hD hS hl hm)
theorem sn_iand (hO : sn_Ok Lo w C own cc nL ret tb nm) {x y : Int32} (hd : decode cc pc = .ok (.iand, 1))
    (k : P → sn_G Lo w R Q E C mc ms (pc + 1) lv (.int (x &&& y) :: rest) S) : P → sn_G Lo w R Q E C mc ms pc lv (.int y :: .int x :: rest) S := by
  obtain ⟨p, e, s, m, args, below, meth, c, A0⟩ := C
  intro q H locs ls hP hD hS hl hm
  exact lv_iand hO.1 hO.2.1 hd (k q H locs ls hP hD hS hl hm)
theorem sn_ior (hO : sn_Ok Lo w C own cc nL ret tb nm) {x y : Int32} (hd : decode cc pc = .ok (.ior, 1))
    (k : P → sn_G Lo w R Q E C mc ms (pc + 1) lv (.int (x ||| y) :: rest) S) : P → sn_G Lo w R Q E C mc ms pc lv (.int y :: .int x :: rest) S := by
  obtain ⟨p, e, s, m, args, below, meth, c, A0⟩ := C
  intro q H locs ls hP hD hS hl hm
  exact lv_ior hO.1 hO.2.1 hd (k q H locs ls hP hD hS hl hm)
theorem sn_ixor (hO : sn_Ok Lo w C own cc nL ret tb nm) {x y : Int32} (hd : decode cc pc = .ok (.ixor, 1))
    (k : P → sn_G Lo w R Q E C mc ms (pc + 1) lv (.int (x ^^^ y) :: rest) S) : P → sn_G Lo w R Q E C mc ms pc lv (.int y :: .int x :: rest) S := by
  obtain ⟨p, e, s, m, args, below, meth, c, A0⟩ := C
  intro q H locs ls hP hD hS hl hm
  exact lv_ixor hO.1 hO.2.1 hd (k q H locs ls hP hD hS hl hm)
theorem sn_ishl (hO : sn_Ok Lo w C own cc nL ret tb nm) {x y : Int32} (hd : decode cc pc = .ok (.ishl, 1))
    (k : P → sn_G Lo w R Q E C mc ms (pc + 1) lv (.int (x <<< (y &&& 31)) :: rest) S) : P → sn_G Lo w R Q E C mc ms pc lv (.int y :: .int x :: rest) S := by
  obtain ⟨p, e, s, m, args, below, meth, c, A0⟩ := C
  intro q H locs ls hP hD hS hl hm
  exact lv_ishl hO.1 hO.2.1 hd (k q H locs ls hP hD hS hl hm)
theorem sn_ishr (hO : sn_Ok Lo w C own cc nL ret tb nm) {x y : Int32} (hd : decode cc pc = .ok (.ishr, 1))
    (k : P → sn_G Lo w R Q E C mc ms (pc + 1) lv (.int (x >>> (y &&& 31)) :: rest) S) : P → sn_G Lo w R Q E C mc ms pc lv (.int y :: .int x :: rest) S := by
  obtain ⟨p, e, s, m, args, below, meth, c, A0⟩ := C
  intro q H locs ls hP hD hS hl hm
  exact lv_ishr hO.1 hO.2.1 hd (k q H locs ls hP hD hS hl hm)
theorem sn_ladd (hO : sn_Ok Lo w C own cc nL ret tb nm) {x y : Int64} (hd : decode cc pc = .ok (.ladd, 1))
    (k : P → sn_G Lo w R Q E C mc ms (pc + 1) lv (.long (x + y) :: rest) S) : P → sn_G Lo w R Q E C mc ms pc lv (.long y :: .long x :: rest) S := by
  obtain ⟨p, e, s, m, args, below, meth, c, A0⟩ := C
  intro q H locs ls hP hD hS hl hm
  exact lv_ladd hO.1 hO.2.1 hd (k q H locs ls hP hD hS hl hm)
theorem sn_lsub (hO : sn_Ok Lo w C own cc nL ret tb nm) {x y : Int64} (hd : decode cc pc = .ok (.lsub, 1))
    (k : P → sn_G Lo w R Q E C mc ms (pc + 1) lv (.long (x - y) :: rest) S) : P → sn_G Lo w R Q E C mc ms pc lv (.long y :: .long x :: rest) S := by
  obtain ⟨p, e, s, m, args, below, meth, c, A0⟩ := C
  intro q H locs ls hP hD hS hl hm
  exact lv_lsub hO.1 hO.2.1 hd (k q H locs ls hP hD hS hl hm)
theorem sn_lmul (hO : sn_Ok Lo w C own cc nL ret tb nm) {x y : Int64} (hd : decode cc pc = .ok (.lmul, 1))
    (k : P → sn_G Lo w R Q E C mc ms (pc + 1) lv (.long (x * y) :: rest) S) : P → sn_G Lo w R Q E C mc ms pc lv (.long y :: .long x :: rest) S := by
  obtain ⟨p, e, s, m, args, below, meth, c, A0⟩ := C
  intro q H locs ls hP hD hS hl hm
  exact lv_lmul hO.1 hO.2.1 hd (k q H locs ls hP hD hS hl hm)
theorem sn_land (hO : sn_Ok Lo w C own cc nL ret tb nm) {x y : Int64} (hd : decode cc pc = .ok (.land, 1))
    (k : P → sn_G Lo w R Q E C mc ms (pc + 1) lv (.long (x &&& y) :: rest) S) : P → sn_G Lo w R Q E C mc ms pc lv (.long y :: .long x :: rest) S := by
  obtain ⟨p, e, s, m, args, below, meth, c, A0⟩ := C
  intro q H locs ls hP hD hS hl hm
  exact lv_land hO.1 hO.2.1 hd (k q H locs ls hP hD hS hl hm)
theorem sn_lor (hO : sn_Ok Lo w C own cc nL ret tb nm) {x y : Int64} (hd : decode cc pc = .ok (.lor, 1))
    (k : P → sn_G Lo w R Q E C mc ms (pc + 1) lv (.long (x ||| y) :: rest) S) : P → sn_G Lo w R Q E C mc ms pc lv (.long y :: .long x :: rest) S := by
  obtain ⟨p, e, s, m, args, below, meth, c, A0⟩ := C
  intro q H locs ls hP hD hS hl hm
  exact lv_lor hO.1 hO.2.1 hd (k q H locs ls hP hD hS hl hm)
theorem sn_lxor (hO : sn_Ok Lo w C own cc nL ret tb nm) {x y : Int64} (hd : decode cc pc = .ok (.lxor, 1))
    (k : P → sn_G Lo w R Q E C mc ms (pc + 1) lv (.long (x ^^^ y) :: rest) S) : P → sn_G Lo w R Q E C mc ms pc lv (.long y :: .long x :: rest) S := by
  obtain ⟨p, e, s, m, args, below, meth, c, A0⟩ := C
  intro q H locs ls hP hD hS hl hm
  exact lv_lxor hO.1 hO.2.1 hd (k q H locs ls hP hD hS hl hm)
theorem sn_idiv (hO : sn_Ok Lo w C own cc nL ret tb nm) {x y : Int32} (hne : ¬ y = 0) (hd : decode cc pc = .ok (.idiv, 1))
    (k : P → sn_G Lo w R Q E C mc ms (pc + 1) lv (.int (x / y) :: rest) S) : P → sn_G Lo w R Q E C mc ms pc lv (.int y :: .int x :: rest) S := by
  obtain ⟨p, e, s, m, args, below, meth, c, A0⟩ := C
  intro q H locs ls hP hD hS hl hm
  exact lv_idiv hO.1 hO.2.1 hd hne (k q H locs ls hP hD hS hl hm)
theorem sn_idivP (hO : sn_Ok Lo w C own cc nL ret tb nm) {x y : Int32} (hd : decode cc pc = .ok (.idiv, 1))
    (k : P → sn_G Lo w R Q E C mc ms (pc + 1) lv (.int (x / y) :: rest) S) : (¬ y = 0 ∧ P) → sn_G Lo w R Q E C mc ms pc lv (.int y :: .int x :: rest) S := by
  obtain ⟨p, e, s, m, args, below, meth, c, A0⟩ := C
  intro q H locs ls hP hD hS hl hm
  exact lv_idiv hO.1 hO.2.1 hd q.1 (k q.2 H locs ls hP hD hS hl hm)
theorem sn_irem (hO : sn_Ok Lo w C own cc nL ret tb nm) {x y : Int32} (hne : ¬ y = 0) (hd : decode cc pc = .ok (.irem, 1))
    (k : P → sn_G Lo w R Q E C mc ms (pc + 1) lv (.int (x - x / y * y) :: rest) S) : P → sn_G Lo w R Q E C mc ms pc lv (.int y :: .int x :: rest) S := by
  obtain ⟨p, e, s, m, args, below, meth, c, A0⟩ := C
  intro q H locs ls hP hD hS hl hm
  exact lv_irem hO.1 hO.2.1 hd hne (k q H locs ls hP hD hS hl hm)
theorem sn_iremP (hO : sn_Ok Lo w C own cc nL ret tb nm) {x y : Int32} (hd : decode cc pc = .ok (.irem, 1))
    (k : P → sn_G Lo w R Q E C mc ms (pc + 1) lv (.int (x - x / y * y) :: rest) S) : (¬ y = 0 ∧ P) → sn_G Lo w R Q E C mc ms pc lv (.int y :: .int x :: rest) S := by
  obtain ⟨p, e, s, m, args, below, meth, c, A0⟩ := C
  intro q H locs ls hP hD hS hl hm
  exact lv_irem hO.1 hO.2.1 hd q.1 (k q.2 H locs ls hP hD hS hl hm)
theorem sn_ldiv (hO : sn_Ok Lo w C own cc nL ret tb nm) {x y : Int64} (hne : ¬ y = 0) (hd : decode cc pc = .ok (.ldiv, 1))
    (k : P → sn_G Lo w R Q E C mc ms (pc + 1) lv (.long (x / y) :: rest) S) : P → sn_G Lo w R Q E C mc ms pc lv (.long y :: .long x :: rest) S := by
  obtain ⟨p, e, s, m, args, below, meth, c, A0⟩ := C
  intro q H locs ls hP hD hS hl hm
  exact lv_ldiv hO.1 hO.2.1 hd hne (k q H locs ls hP hD hS hl hm)
theorem sn_ldivP (hO : sn_Ok Lo w C own cc nL ret tb nm) {x y : Int64} (hd : decode cc pc = .ok (.ldiv, 1))
    (k : P → sn_G Lo w R Q E C mc ms (pc + 1) lv (.long (x / y) :: rest) S) : (¬ y = 0 ∧ P) → sn_G Lo w R Q E C mc ms pc lv (.long y :: .long x :: rest) S := by
  obtain ⟨p, e, s, m, args, below, meth, c, A0⟩ := C
  intro q H locs ls hP hD hS hl hm
  exact lv_ldiv hO.1 hO.2.1 hd q.1 (k q.2 H locs ls hP hD hS hl hm)
theorem sn_lrem (hO : sn_Ok Lo w C own cc nL ret tb nm) {x y : Int64} (hne : ¬ y = 0) (hd : decode cc pc = .ok (.lrem, 1))
    (k : P → sn_G Lo w R Q E C mc ms (pc + 1) lv (.long (x - x / y * y) :: rest) S) : P → sn_G Lo w R Q E C mc ms pc lv (.long y :: .long x :: rest) S := by
  obtain ⟨p, e, s, m, args, below, meth, c, A0⟩ := C
  intro q H locs ls hP hD hS hl hm
  exact lv_lrem hO.1 hO.2.1 hd hne (k q H locs ls hP hD hS hl hm)
theorem sn_lremP (hO : sn_Ok Lo w C own cc nL ret tb nm) {x y : Int64} (hd : decode cc pc = .ok (.lrem, 1))
    (k : P → sn_G Lo w R Q E C mc ms (pc + 1) lv (.long (x - x / y * y) :: rest) S) : (¬ y = 0 ∧ P) → sn_G Lo w R Q E C mc ms pc lv (.long y :: .long x :: rest) S := by
  obtain ⟨p, e, s, m, args, below, meth, c, A0⟩ := C
  intro q H locs ls hP hD hS hl hm
  exact lv_lrem hO.1 hO.2.1 hd q.1 (k q.2 H locs ls hP hD hS hl hm)
theorem sn_ineg (hO : sn_Ok Lo w C own cc nL ret tb nm) {x : Int32} (hd : decode cc pc = .ok (.ineg, 1))
    (k : P → sn_G Lo w R Q E C mc ms (pc + 1) lv (.int (-x) :: rest) S) : P → sn_G Lo w R Q E C mc ms pc lv (.int x :: rest) S := by
  obtain ⟨p, e, s, m, args, below, meth, c, A0⟩ := C
  intro q H locs ls hP hD hS hl hm
  exact lv_ineg hO.1 hO.2.1 hd (k q H locs ls hP hD hS hl hm)
theorem sn_lneg (hO : sn_Ok Lo w C own cc nL ret tb nm) {x : Int64} (hd : decode cc pc = .ok (.lneg, 1))
    (k : P → sn_G Lo w R Q E C mc ms (pc + 1) lv (.long (-x) :: rest) S) : P → sn_G Lo w R Q E C mc ms pc lv (.long x :: rest) S := by
  obtain ⟨p, e, s, m, args, below, meth, c, A0⟩ := C
  intro q H locs ls hP hD hS hl hm
  exact lv_lneg hO.1 hO.2.1 hd (k q H locs ls hP hD hS hl hm)
theorem sn_i2l (hO : sn_Ok Lo w C own cc nL ret tb nm) {x : Int32} (hd : decode cc pc = .ok (.i2l, 1))
    (k : P → sn_G Lo w R Q E C mc ms (pc + 1) lv (.long (x.toInt64) :: rest) S) : P → sn_G Lo w R Q E C mc ms pc lv (.int x :: rest) S := by
  obtain ⟨p, e, s, m, args, below, meth, c, A0⟩ := C
  intro q H locs ls hP hD hS hl hm
  exact lv_i2l hO.1 hO.2.1 hd rfl (k q H locs ls hP hD hS hl hm)
theorem sn_l2i (hO : sn_Ok Lo w C own cc nL ret tb nm) {x : Int64} (hd : decode cc pc = .ok (.l2i, 1))
    (k : P → sn_G Lo w R Q E C mc ms (pc + 1) lv (.int (x.toInt32) :: rest) S) : P → sn_G Lo w R Q E C mc ms pc lv (.long x :: rest) S := by
  obtain ⟨p, e, s, m, args, below, meth, c, A0⟩ := C
  intro q H locs ls hP hD hS hl hm
  exact lv_l2i hO.1 hO.2.1 hd rfl (k q H locs ls hP hD hS hl hm)
theorem sn_i2b (hO : sn_Ok Lo w C own cc nL ret tb nm) {x : Int32} (hd : decode cc pc = .ok (.i2b, 1))
    (k : P → sn_G Lo w R Q E C mc ms (pc + 1) lv (.int (x.toInt8.toInt32) :: rest) S) : P → sn_G Lo w R Q E C mc ms pc lv (.int x :: rest) S := by
  obtain ⟨p, e, s, m, args, below, meth, c, A0⟩ := C
  intro q H locs ls hP hD hS hl hm
  exact lv_i2b hO.1 hO.2.1 hd rfl (k q H locs ls hP hD hS hl hm)
theorem sn_i2c (hO : sn_Ok Lo w C own cc nL ret tb nm) {x : Int32} (hd : decode cc pc = .ok (.i2c, 1))
    (k : P → sn_G Lo w R Q E C mc ms (pc + 1) lv (.int ((x.toUInt32 % 65536).toInt32) :: rest) S) : P → sn_G Lo w R Q E C mc ms pc lv (.int x :: rest) S := by
  obtain ⟨p, e, s, m, args, below, meth, c, A0⟩ := C
  intro q H locs ls hP hD hS hl hm
  exact lv_i2c hO.1 hO.2.1 hd rfl (k q H locs ls hP hD hS hl hm)
theorem sn_iushr (hO : sn_Ok Lo w C own cc nL ret tb nm) {x y : Int32} (hd : decode cc pc = .ok (.iushr, 1))
    (k : P → sn_G Lo w R Q E C mc ms (pc + 1) lv (.int ((x.toUInt32 >>> (y.toUInt32 &&& Int32.toUInt32 31)).toInt32) :: rest) S) : P → sn_G Lo w R Q E C mc ms pc lv (.int y :: .int x :: rest) S := by
  obtain ⟨p, e, s, m, args, below, meth, c, A0⟩ := C
  intro q H locs ls hP hD hS hl hm
  exact lv_iushr hO.1 hO.2.1 hd rfl (k q H locs ls hP hD hS hl hm)
theorem sn_lcmp (hO : sn_Ok Lo w C own cc nL ret tb nm) {x y : Int64} (hd : decode cc pc = .ok (.lcmp, 1))
    (k : P → sn_G Lo w R Q E C mc ms (pc + 1) lv (.int (lg_cmp x y) :: rest) S) : P → sn_G Lo w R Q E C mc ms pc lv (.long y :: .long x :: rest) S := by
  obtain ⟨p, e, s, m, args, below, meth, c, A0⟩ := C
  intro q H locs ls hP hD hS hl hm
  exact W.lcmp hO.1 hO.2.1 hd (k q H locs ls hP hD hS hl hm)
theorem sn_dup (hO : sn_Ok Lo w C own cc nL ret tb nm) {va : Value} (h1 : va.category = 1) (hd : decode cc pc = .ok (.dup, 1))
    (k : P → sn_G Lo w R Q E C mc ms (pc + 1) lv (va :: va :: rest) S) : P → sn_G Lo w R Q E C mc ms pc lv (va :: rest) S := by
  obtain ⟨p, e, s, m, args, below, meth, c, A0⟩ := C
  intro q H locs ls hP hD hS hl hm
  exact lv_dup hO.1 hO.2.1 hd h1 (k q H locs ls hP hD hS hl hm)
theorem sn_pop (hO : sn_Ok Lo w C own cc nL ret tb nm) {va : Value} (h1 : va.category = 1) (hd : decode cc pc = .ok (.pop, 1))
    (k : P → sn_G Lo w R Q E C mc ms (pc + 1) lv rest S) : P → sn_G Lo w R Q E C mc ms pc lv (va :: rest) S := by
  obtain ⟨p, e, s, m, args, below, meth, c, A0⟩ := C
  intro q H locs ls hP hD hS hl hm
  exact lv_pop hO.1 hO.2.1 hd h1 (k q H locs ls hP hD hS hl hm)
theorem sn_dup_x1 (hO : sn_Ok Lo w C own cc nL ret tb nm) {va vb : Value} (h1 : va.category = 1) (h2 : vb.category = 1) (hd : decode cc pc = .ok (.dup_x1, 1))
    (k : P → sn_G Lo w R Q E C mc ms (pc + 1) lv (va :: vb :: va :: rest) S) : P → sn_G Lo w R Q E C mc ms pc lv (va :: vb :: rest) S := by
  obtain ⟨p, e, s, m, args, below, meth, c, A0⟩ := C
  intro q H locs ls hP hD hS hl hm
  exact lv_dup_x1 hO.1 hO.2.1 hd h1 h2 (k q H locs ls hP hD hS hl hm)
theorem sn_dup_x2 (hO : sn_Ok Lo w C own cc nL ret tb nm) {va vb vd : Value} (h1 : va.category = 1) (h2 : vb.category = 1) (h3 : vd.category = 1) (hd : decode cc pc = .ok (.dup_x2, 1))
    (k : P → sn_G Lo w R Q E C mc ms (pc + 1) lv (va :: vb :: vd :: va :: rest) S) : P → sn_G Lo w R Q E C mc ms pc lv (va :: vb :: vd :: rest) S := by
  obtain ⟨p, e, s, m, args, below, meth, c, A0⟩ := C
  intro q H locs ls hP hD hS hl hm
  exact lv_dup_x2 hO.1 hO.2.1 hd h1 h2 h3 (k q H locs ls hP hD hS hl hm)
theorem sn_dup2 (hO : sn_Ok Lo w C own cc nL ret tb nm) {va vb : Value} (h1 : va.category = 1) (h2 : vb.category = 1) (hd : decode cc pc = .ok (.dup2, 1))
    (k : P → sn_G Lo w R Q E C mc ms (pc + 1) lv (va :: vb :: va :: vb :: rest) S) : P → sn_G Lo w R Q E C mc ms pc lv (va :: vb :: rest) S := by
  obtain ⟨p, e, s, m, args, below, meth, c, A0⟩ := C
  intro q H locs ls hP hD hS hl hm
  exact lv_dup2_11 hO.1 hO.2.1 hd h1 h2 (k q H locs ls hP hD hS hl hm)
theorem sn_dup2l (hO : sn_Ok Lo w C own cc nL ret tb nm) {va : Value} (h1 : va.category = 2) (hd : decode cc pc = .ok (.dup2, 1))
    (k : P → sn_G Lo w R Q E C mc ms (pc + 1) lv (va :: va :: rest) S) : P → sn_G Lo w R Q E C mc ms pc lv (va :: rest) S := by
  obtain ⟨p, e, s, m, args, below, meth, c, A0⟩ := C
  intro q H locs ls hP hD hS hl hm
  exact lv_dup2_2 hO.1 hO.2.1 hd h1 (k q H locs ls hP hD hS hl hm)
theorem sn_pop2l (hO : sn_Ok Lo w C own cc nL ret tb nm) {va : Value} (h1 : va.category = 2) (hd : decode cc pc = .ok (.pop2, 1))
    (k : P → sn_G Lo w R Q E C mc ms (pc + 1) lv rest S) : P → sn_G Lo w R Q E C mc ms pc lv (va :: rest) S := by
  obtain ⟨p, e, s, m, args, below, meth, c, A0⟩ := C
  intro q H locs ls hP hD hS hl hm
  exact lv_pop2_2 hO.1 hO.2.1 hd h1 (k q H locs ls hP hD hS hl hm)
theorem sn_ldc (hO : sn_Ok Lo w C own cc nL ret tb nm) {index : Nat} {v : Int32} (hq : Cond.constant own index v ∈ lw_all) (hd : decode cc pc = .ok (.ldc index, 2))
    (k : P → sn_G Lo w R Q E C mc ms (pc + 2) lv (.int v :: rest) S) : P → sn_G Lo w R Q E C mc ms pc lv rest S := by
  obtain ⟨p, e, s, m, args, below, meth, c, A0⟩ := C
  intro q H locs ls hP hD hS hl hm
  exact lv_ldc hO.1 hO.2.1 hO.2.2.2.2.2.1 (hO.2.2.2.2.2.2.1 _ hq) hd (k q H locs ls hP hD hS hl hm)
theorem sn_ldc_w (hO : sn_Ok Lo w C own cc nL ret tb nm) {index : Nat} {v : Int32} (hq : Cond.constant own index v ∈ lw_all) (hd : decode cc pc = .ok (.ldc_w index, 3))
    (k : P → sn_G Lo w R Q E C mc ms (pc + 3) lv (.int v :: rest) S) : P → sn_G Lo w R Q E C mc ms pc lv rest S := by
  obtain ⟨p, e, s, m, args, below, meth, c, A0⟩ := C
  intro q H locs ls hP hD hS hl hm
  exact lv_ldcw hO.1 hO.2.1 hO.2.2.2.2.2.1 (hO.2.2.2.2.2.2.1 _ hq) hd (k q H locs ls hP hD hS hl hm)
theorem sn_ldc2 (hO : sn_Ok Lo w C own cc nL ret tb nm) {index : Nat} {v : Int64} (hq : Cond.constantLong own index v ∈ lw_all) (hd : decode cc pc = .ok (.ldc2_w index, 3))
    (k : P → sn_G Lo w R Q E C mc ms (pc + 3) lv (.long v :: rest) S) : P → sn_G Lo w R Q E C mc ms pc lv rest S := by
  obtain ⟨p, e, s, m, args, below, meth, c, A0⟩ := C
  intro q H locs ls hP hD hS hl hm
  exact lv_ldc2 hO.1 hO.2.1 hO.2.2.2.2.2.1 (hO.2.2.2.2.2.2.1 _ hq) hd (k q H locs ls hP hD hS hl hm)
theorem sn_if_eq (hO : sn_Ok Lo w C own cc nL ret tb nm) {x : Int32} {off : Int} (tgt : Nat) (ht : (pc : Int) + off = (tgt : Int)) (hd : decode cc pc = .ok (.ifCond .eq off, 3))
    (kt : A → sn_G Lo w R Q E C mc ms tgt lv rest S) (kf : B → sn_G Lo w R Q E C mc ms (pc + 3) lv rest S) : ((x = 0 → A) ∧ (¬ x = 0 → B)) → sn_G Lo w R Q E C mc ms pc lv (.int x :: rest) S := by
  obtain ⟨p, e, s, m, args, below, meth, c, A0⟩ := C
  intro q H locs ls hP hD hS hl hm
  exact lv_if_eq hO.1 hO.2.1 hd ht (fun h => kt (q.1 h) H locs ls hP hD hS hl hm) (fun h => kf (q.2 h) H locs ls hP hD hS hl hm)
theorem sn_if_ne (hO : sn_Ok Lo w C own cc nL ret tb nm) {x : Int32} {off : Int} (tgt : Nat) (ht : (pc : Int) + off = (tgt : Int)) (hd : decode cc pc = .ok (.ifCond .ne off, 3))
    (kt : A → sn_G Lo w R Q E C mc ms tgt lv rest S) (kf : B → sn_G Lo w R Q E C mc ms (pc + 3) lv rest S) : ((¬ x = 0 → A) ∧ (x = 0 → B)) → sn_G Lo w R Q E C mc ms pc lv (.int x :: rest) S := by
  obtain ⟨p, e, s, m, args, below, meth, c, A0⟩ := C
  intro q H locs ls hP hD hS hl hm
  exact lv_if_ne hO.1 hO.2.1 hd ht (fun h => kt (q.1 h) H locs ls hP hD hS hl hm) (fun h => kf (q.2 h) H locs ls hP hD hS hl hm)
theorem sn_if_lt (hO : sn_Ok Lo w C own cc nL ret tb nm) {x : Int32} {off : Int} (tgt : Nat) (ht : (pc : Int) + off = (tgt : Int)) (hd : decode cc pc = .ok (.ifCond .lt off, 3))
    (kt : A → sn_G Lo w R Q E C mc ms tgt lv rest S) (kf : B → sn_G Lo w R Q E C mc ms (pc + 3) lv rest S) : ((x < 0 → A) ∧ (¬ x < 0 → B)) → sn_G Lo w R Q E C mc ms pc lv (.int x :: rest) S := by
  obtain ⟨p, e, s, m, args, below, meth, c, A0⟩ := C
  intro q H locs ls hP hD hS hl hm
  exact lv_if_lt hO.1 hO.2.1 hd ht (fun h => kt (q.1 h) H locs ls hP hD hS hl hm) (fun h => kf (q.2 h) H locs ls hP hD hS hl hm)
theorem sn_if_ge (hO : sn_Ok Lo w C own cc nL ret tb nm) {x : Int32} {off : Int} (tgt : Nat) (ht : (pc : Int) + off = (tgt : Int)) (hd : decode cc pc = .ok (.ifCond .ge off, 3))
    (kt : A → sn_G Lo w R Q E C mc ms tgt lv rest S) (kf : B → sn_G Lo w R Q E C mc ms (pc + 3) lv rest S) : ((0 ≤ x → A) ∧ (¬ 0 ≤ x → B)) → sn_G Lo w R Q E C mc ms pc lv (.int x :: rest) S := by
  obtain ⟨p, e, s, m, args, below, meth, c, A0⟩ := C
  intro q H locs ls hP hD hS hl hm
  exact lv_if_ge hO.1 hO.2.1 hd ht (fun h => kt (q.1 h) H locs ls hP hD hS hl hm) (fun h => kf (q.2 h) H locs ls hP hD hS hl hm)
theorem sn_if_gt (hO : sn_Ok Lo w C own cc nL ret tb nm) {x : Int32} {off : Int} (tgt : Nat) (ht : (pc : Int) + off = (tgt : Int)) (hd : decode cc pc = .ok (.ifCond .gt off, 3))
    (kt : A → sn_G Lo w R Q E C mc ms tgt lv rest S) (kf : B → sn_G Lo w R Q E C mc ms (pc + 3) lv rest S) : ((0 < x → A) ∧ (¬ 0 < x → B)) → sn_G Lo w R Q E C mc ms pc lv (.int x :: rest) S := by
  obtain ⟨p, e, s, m, args, below, meth, c, A0⟩ := C
  intro q H locs ls hP hD hS hl hm
  exact lv_if_gt hO.1 hO.2.1 hd ht (fun h => kt (q.1 h) H locs ls hP hD hS hl hm) (fun h => kf (q.2 h) H locs ls hP hD hS hl hm)
theorem sn_if_le (hO : sn_Ok Lo w C own cc nL ret tb nm) {x : Int32} {off : Int} (tgt : Nat) (ht : (pc : Int) + off = (tgt : Int)) (hd : decode cc pc = .ok (.ifCond .le off, 3))
    (kt : A → sn_G Lo w R Q E C mc ms tgt lv rest S) (kf : B → sn_G Lo w R Q E C mc ms (pc + 3) lv rest S) : ((x ≤ 0 → A) ∧ (¬ x ≤ 0 → B)) → sn_G Lo w R Q E C mc ms pc lv (.int x :: rest) S := by
  obtain ⟨p, e, s, m, args, below, meth, c, A0⟩ := C
  intro q H locs ls hP hD hS hl hm
  exact lv_if_le hO.1 hO.2.1 hd ht (fun h => kt (q.1 h) H locs ls hP hD hS hl hm) (fun h => kf (q.2 h) H locs ls hP hD hS hl hm)
theorem sn_icmp_eq (hO : sn_Ok Lo w C own cc nL ret tb nm) {x y : Int32} {off : Int} (tgt : Nat) (ht : (pc : Int) + off = (tgt : Int)) (hd : decode cc pc = .ok (.if_icmp .eq off, 3))
    (kt : A → sn_G Lo w R Q E C mc ms tgt lv rest S) (kf : B → sn_G Lo w R Q E C mc ms (pc + 3) lv rest S) : ((x = y → A) ∧ (¬ x = y → B)) → sn_G Lo w R Q E C mc ms pc lv (.int y :: .int x :: rest) S := by
  obtain ⟨p, e, s, m, args, below, meth, c, A0⟩ := C
  intro q H locs ls hP hD hS hl hm
  exact lv_icmp_eq hO.1 hO.2.1 hd ht (fun h => kt (q.1 h) H locs ls hP hD hS hl hm) (fun h => kf (q.2 h) H locs ls hP hD hS hl hm)
theorem sn_icmp_ne (hO : sn_Ok Lo w C own cc nL ret tb nm) {x y : Int32} {off : Int} (tgt : Nat) (ht : (pc : Int) + off = (tgt : Int)) (hd : decode cc pc = .ok (.if_icmp .ne off, 3))
    (kt : A → sn_G Lo w R Q E C mc ms tgt lv rest S) (kf : B → sn_G Lo w R Q E C mc ms (pc + 3) lv rest S) : ((¬ x = y → A) ∧ (x = y → B)) → sn_G Lo w R Q E C mc ms pc lv (.int y :: .int x :: rest) S := by
  obtain ⟨p, e, s, m, args, below, meth, c, A0⟩ := C
  intro q H locs ls hP hD hS hl hm
  exact lv_icmp_ne hO.1 hO.2.1 hd ht (fun h => kt (q.1 h) H locs ls hP hD hS hl hm) (fun h => kf (q.2 h) H locs ls hP hD hS hl hm)
theorem sn_icmp_lt (hO : sn_Ok Lo w C own cc nL ret tb nm) {x y : Int32} {off : Int} (tgt : Nat) (ht : (pc : Int) + off = (tgt : Int)) (hd : decode cc pc = .ok (.if_icmp .lt off, 3))
    (kt : A → sn_G Lo w R Q E C mc ms tgt lv rest S) (kf : B → sn_G Lo w R Q E C mc ms (pc + 3) lv rest S) : ((x < y → A) ∧ (¬ x < y → B)) → sn_G Lo w R Q E C mc ms pc lv (.int y :: .int x :: rest) S := by
  obtain ⟨p, e, s, m, args, below, meth, c, A0⟩ := C
  intro q H locs ls hP hD hS hl hm
  exact lv_icmp_lt hO.1 hO.2.1 hd ht (fun h => kt (q.1 h) H locs ls hP hD hS hl hm) (fun h => kf (q.2 h) H locs ls hP hD hS hl hm)
theorem sn_icmp_ge (hO : sn_Ok Lo w C own cc nL ret tb nm) {x y : Int32} {off : Int} (tgt : Nat) (ht : (pc : Int) + off = (tgt : Int)) (hd : decode cc pc = .ok (.if_icmp .ge off, 3))
    (kt : A → sn_G Lo w R Q E C mc ms tgt lv rest S) (kf : B → sn_G Lo w R Q E C mc ms (pc + 3) lv rest S) : ((y ≤ x → A) ∧ (¬ y ≤ x → B)) → sn_G Lo w R Q E C mc ms pc lv (.int y :: .int x :: rest) S := by
  obtain ⟨p, e, s, m, args, below, meth, c, A0⟩ := C
  intro q H locs ls hP hD hS hl hm
  exact lv_icmp_ge hO.1 hO.2.1 hd ht (fun h => kt (q.1 h) H locs ls hP hD hS hl hm) (fun h => kf (q.2 h) H locs ls hP hD hS hl hm)
theorem sn_icmp_gt (hO : sn_Ok Lo w C own cc nL ret tb nm) {x y : Int32} {off : Int} (tgt : Nat) (ht : (pc : Int) + off = (tgt : Int)) (hd : decode cc pc = .ok (.if_icmp .gt off, 3))
    (kt : A → sn_G Lo w R Q E C mc ms tgt lv rest S) (kf : B → sn_G Lo w R Q E C mc ms (pc + 3) lv rest S) : ((y < x → A) ∧ (¬ y < x → B)) → sn_G Lo w R Q E C mc ms pc lv (.int y :: .int x :: rest) S := by
  obtain ⟨p, e, s, m, args, below, meth, c, A0⟩ := C
  intro q H locs ls hP hD hS hl hm
  exact lv_icmp_gt hO.1 hO.2.1 hd ht (fun h => kt (q.1 h) H locs ls hP hD hS hl hm) (fun h => kf (q.2 h) H locs ls hP hD hS hl hm)
theorem sn_icmp_le (hO : sn_Ok Lo w C own cc nL ret tb nm) {x y : Int32} {off : Int} (tgt : Nat) (ht : (pc : Int) + off = (tgt : Int)) (hd : decode cc pc = .ok (.if_icmp .le off, 3))
    (kt : A → sn_G Lo w R Q E C mc ms tgt lv rest S) (kf : B → sn_G Lo w R Q E C mc ms (pc + 3) lv rest S) : ((x ≤ y → A) ∧ (¬ x ≤ y → B)) → sn_G Lo w R Q E C mc ms pc lv (.int y :: .int x :: rest) S := by
  obtain ⟨p, e, s, m, args, below, meth, c, A0⟩ := C
  intro q H locs ls hP hD hS hl hm
  exact lv_icmp_le hO.1 hO.2.1 hd ht (fun h => kt (q.1 h) H locs ls hP hD hS hl hm) (fun h => kf (q.2 h) H locs ls hP hD hS hl hm)
theorem sn_goto (hO : sn_Ok Lo w C own cc nL ret tb nm) {off : Int} (tgt : Nat) (ht : (pc : Int) + off = (tgt : Int)) (hd : decode cc pc = .ok (.goto off, 3))
    (k : P → sn_G Lo w R Q E C mc ms tgt lv st S) : P → sn_G Lo w R Q E C mc ms pc lv st S := by
  obtain ⟨p, e, s, m, args, below, meth, c, A0⟩ := C
  intro q H locs ls hP hD hS hl hm
  exact lv_goto hO.1 hO.2.1 hd ht (k q H locs ls hP hD hS hl hm)
def sn_sw (x : Int32) : Int → List Prop → Prop → Prop
  | _, [], D => D
  | lo, A :: L, D => (x.toInt = lo → A) ∧ (¬ x.toInt = lo → sn_sw x (lo + 1) L D)
theorem sn_sw_out {x : Int32} {D : Prop} : ∀ (L : List Prop) (lo : Int), (x.toInt < lo ∨ lo + (L.length : Int) ≤ x.toInt) → sn_sw x lo L D → D
  | [], _, _, h => h
  | A :: L, lo, ho, h => sn_sw_out L (lo + 1) (by simp only [List.length_cons] at ho; omega) (h.2 (by simp only [List.length_cons] at ho; omega))
theorem sn_sw_in {x : Int32} {D : Prop} : ∀ (L : List Prop) (lo : Int) (j : Nat) (A : Prop), L[j]? = some A → x.toInt = lo + (j : Int) → sn_sw x lo L D → A
  | [], _, j, A, hj, _, _ => by simp at hj
  | B :: L, lo, 0, A, hj, hx, h => by
    cases hj
    exact h.1 (by omega)
  | B :: L, lo, j + 1, A, hj, hx, h => sn_sw_in L (lo + 1) j A (by simpa using hj) (by omega) (h.2 (by omega))
def sn_ks (Gd : Nat → Prop) : List Prop → List Nat → Prop
  | A :: L, t :: T => (A → Gd t) ∧ sn_ks Gd L T
  | [], [] => True
  | _, _ => False
theorem sn_ks_at {Gd : Nat → Prop} : ∀ (L : List Prop) (T : List Nat), sn_ks Gd L T → L.length = T.length ∧ ∀ (j t : Nat), T[j]? = some t → ∃ A, L[j]? = some A ∧ (A → Gd t)
  | [], [], _ => ⟨rfl, fun j t h => by simp at h⟩
  | [], _ :: _, h => h.elim
  | _ :: _, [], h => h.elim
  | A :: L, t :: T, h => by
    obtain ⟨h1, h2⟩ := sn_ks_at L T h.2
    refine ⟨by simp [h1], fun j t' hj => ?_⟩
    cases j with
    | zero => cases hj; exact ⟨A, rfl, h.1⟩
    | succ j => exact h2 j t' (by simpa using hj)
theorem sn_tsw (hO : sn_Ok Lo w C own cc nL ret tb nm) {x : Int32} {dflt lo hi : Int} {offs : Array Int} {len : Nat} (T : List Nat) (tD : Nat) {L : List Prop} {D : Prop} (hT : offs.toList.map (fun z => (pc : Int) + z) = T.map (fun (t : Nat) => (t : Int))) (hDf : (pc : Int) + dflt = (tD : Int)) (hh : hi + 1 = lo + (T.length : Int)) (hd : decode cc pc = .ok (.tableswitch dflt lo hi offs, len))
    (k : sn_ks (fun t => sn_G Lo w R Q E C mc ms t lv rest S) L T) (kD : D → sn_G Lo w R Q E C mc ms tD lv rest S) : sn_sw x lo L D → sn_G Lo w R Q E C mc ms pc lv (.int x :: rest) S := by
  obtain ⟨h1, h2⟩ := sn_ks_at L T k
  obtain ⟨p, e, s, m, args, below, meth, c, A0⟩ := C
  intro q H locs ls hP hD hS hl hm
  by_cases hx : x.toInt < lo ∨ hi < x.toInt
  · exact lv_tableOut hO.1 hO.2.1 hd hx hDf (kD (sn_sw_out L lo (by omega) q) H locs ls hP hD hS hl hm)
  · have hx1 : ¬ x.toInt < lo := fun h => hx (Or.inl h)
    have hx2 : ¬ hi < x.toInt := fun h => hx (Or.inr h)
    have hj : (x.toInt - lo).toNat < T.length := by omega
    obtain ⟨A, hA, kA⟩ := h2 (x.toInt - lo).toNat T[(x.toInt - lo).toNat] (List.getElem?_eq_getElem hj)
    have hz : (offs.toList.map (fun z => (pc : Int) + z))[(x.toInt - lo).toNat]? = some (T[(x.toInt - lo).toNat] : Int) := by
      rw [hT, List.getElem?_map, List.getElem?_eq_getElem hj]
      rfl
    rw [List.getElem?_map] at hz
    cases ho : offs.toList[(x.toInt - lo).toNat]? with
    | none => rw [ho] at hz; cases hz
    | some z =>
      rw [ho] at hz
      exact lv_tableIn hO.1 hO.2.1 hd hx1 hx2 (by rw [← Array.getElem?_toList]; exact ho) (Option.some.inj hz) (kA (sn_sw_in L lo _ A hA (by omega) q) H locs ls hP hD hS hl hm)
/-- a field's link, its class's place among the classes, its place and code -/
def sn_Fc (Lo : sn_Lo) (own : String) (index ci : Nat) (cs : List Nat) (i c : Nat) (fin : Bool) (ty : FieldType) : Prop := ∃ (CN : String) (T : u_T) (N : Nat) (tyf : Nat → FieldType), (∀ v ∈ u_ws CN T N, v ∈ lw_all) ∧ (∀ k, k < N → parseFieldDescriptor (T k).2.2.1 = some (tyf k)) ∧ (∀ a, a < N → ∀ b, b < N → a ≠ b → (T a).2.1 ≠ (T b).2.1) ∧ Lo.2.2.1[ci]? = some (CN, T, N) ∧ i < N ∧ cs[i]? = some c ∧ Cond.fieldLink own index (T i).1 (T i).2.1 (T i).2.2.1 ∈ lw_all ∧ (T i).2.2.2 = fin ∧ parseFieldDescriptor (T i).2.2.1 = some ty
/-- the same of a nest mate's field -/
def sn_FcN (Lo : sn_Lo) (own : String) (index ci : Nat) (cs : List Nat) (i c : Nat) (fin : Bool) (ty : FieldType) : Prop := ∃ (CN host : String) (T : u_T) (N : Nat) (tyf : Nat → FieldType), (∀ v ∈ u_ws CN T N, v ∈ lw_all) ∧ (∀ k, k < N → parseFieldDescriptor (T k).2.2.1 = some (tyf k)) ∧ (∀ a, a < N → ∀ b, b < N → a ≠ b → (T a).2.1 ≠ (T b).2.1) ∧ Lo.2.2.1[ci]? = some (CN, T, N) ∧ i < N ∧ cs[i]? = some c ∧ (∀ w A U H, Lo.2.2.2.2 w A U H → va_Nw (.fieldLinkNest own index (T i).1 (T i).2.1 (T i).2.2.1 host) U) ∧ (T i).2.2.2 = fin ∧ parseFieldDescriptor (T i).2.2.1 = some ty
/-- which kind of cell lies at a place of the fixed part -/
def sn_At (Lo : sn_Lo) (k : Nat) (kd : sn_Kd) : Prop := k < Lo.1 ∧ Lo.2.1 k = kd
theorem sn_getI (hO : sn_Ok Lo w C own cc nL ret tb nm) {index ci k i : Nat} {cs : List Nat} {fin : Bool} {ty : FieldType} (hf : sn_Fc Lo own index ci cs i 0 fin ty) (hat : sn_At Lo k (.inl (ci, cs))) (hd : decode cc pc = .ok (.getfield index, 3))
    (kk : P → sn_G Lo w R Q E C mc ms (pc + 3) lv (.int (S.1 k i) :: rest) S) : P → sn_G Lo w R Q E C mc ms pc lv (.ref (w.2.2.1 k) :: rest) S := by
  obtain ⟨CN, T, N, tyf, hin, hty, hnm, hcl, hi, hc, hq, hfin, hd2⟩ := hf
  obtain ⟨p, e, s, m, args, below, meth, c, A0⟩ := C
  intro q H locs ls hP hD hS hl hm
  exact va_get hO.1 hO.2.1 hO.2.2.2.2.2.2.1 hin hO.2.2.2.2.2.1 hO.2.2.2.2.2.2.2.1 hP k (sn_ws_get w S hat.1 hat.2) hcl i hi (hO.2.2.2.2.2.2.1 _ hq) (fun _ h => h) (sn_fs_get w.2.2.1 S k hc) hd (kk q H locs ls hP hD hS hl hm)
theorem sn_getJ (hO : sn_Ok Lo w C own cc nL ret tb nm) {index ci k i : Nat} {cs : List Nat} {fin : Bool} {ty : FieldType} (hf : sn_Fc Lo own index ci cs i 1 fin ty) (hat : sn_At Lo k (.inl (ci, cs))) (hd : decode cc pc = .ok (.getfield index, 3))
    (kk : P → sn_G Lo w R Q E C mc ms (pc + 3) lv (.long (S.2.1 k i) :: rest) S) : P → sn_G Lo w R Q E C mc ms pc lv (.ref (w.2.2.1 k) :: rest) S := by
  obtain ⟨CN, T, N, tyf, hin, hty, hnm, hcl, hi, hc, hq, hfin, hd2⟩ := hf
  obtain ⟨p, e, s, m, args, below, meth, c, A0⟩ := C
  intro q H locs ls hP hD hS hl hm
  exact va_get hO.1 hO.2.1 hO.2.2.2.2.2.2.1 hin hO.2.2.2.2.2.1 hO.2.2.2.2.2.2.2.1 hP k (sn_ws_get w S hat.1 hat.2) hcl i hi (hO.2.2.2.2.2.2.1 _ hq) (fun _ h => h) (sn_fs_get w.2.2.1 S k hc) hd (kk q H locs ls hP hD hS hl hm)
theorem sn_getQ (hO : sn_Ok Lo w C own cc nL ret tb nm) {index ci k i : Nat} {cs : List Nat} {fin : Bool} {ty : FieldType} (hf : sn_Fc Lo own index ci cs i 2 fin ty) (hat : sn_At Lo k (.inl (ci, cs))) (hd : decode cc pc = .ok (.getfield index, 3))
    (kk : P → sn_G Lo w R Q E C mc ms (pc + 3) lv (va_rf (S.2.2.1 k i) :: rest) S) : P → sn_G Lo w R Q E C mc ms pc lv (.ref (w.2.2.1 k) :: rest) S := by
  obtain ⟨CN, T, N, tyf, hin, hty, hnm, hcl, hi, hc, hq, hfin, hd2⟩ := hf
  obtain ⟨p, e, s, m, args, below, meth, c, A0⟩ := C
  intro q H locs ls hP hD hS hl hm
  exact va_get hO.1 hO.2.1 hO.2.2.2.2.2.2.1 hin hO.2.2.2.2.2.1 hO.2.2.2.2.2.2.2.1 hP k (sn_ws_get w S hat.1 hat.2) hcl i hi (hO.2.2.2.2.2.2.1 _ hq) (fun _ h => h) (sn_fs_get w.2.2.1 S k hc) hd (kk q H locs ls hP hD hS hl hm)
theorem sn_getF (hO : sn_Ok Lo w C own cc nL ret tb nm) {index ci k i j : Nat} {cs : List Nat} {fin : Bool} {ty : FieldType} (hf : sn_Fc Lo own index ci cs i (j + 3) fin ty) (hat : sn_At Lo k (.inl (ci, cs))) (hd : decode cc pc = .ok (.getfield index, 3))
    (kk : P → sn_G Lo w R Q E C mc ms (pc + 3) lv (.ref (w.2.2.1 j) :: rest) S) : P → sn_G Lo w R Q E C mc ms pc lv (.ref (w.2.2.1 k) :: rest) S := by
  obtain ⟨CN, T, N, tyf, hin, hty, hnm, hcl, hi, hc, hq, hfin, hd2⟩ := hf
  obtain ⟨p, e, s, m, args, below, meth, c, A0⟩ := C
  intro q H locs ls hP hD hS hl hm
  exact va_get hO.1 hO.2.1 hO.2.2.2.2.2.2.1 hin hO.2.2.2.2.2.1 hO.2.2.2.2.2.2.2.1 hP k (sn_ws_get w S hat.1 hat.2) hcl i hi (hO.2.2.2.2.2.2.1 _ hq) (fun _ h => h) (sn_fs_get w.2.2.1 S k hc) hd (kk q H locs ls hP hD hS hl hm)
theorem sn_putI (hO : sn_Ok Lo w C own cc nL ret tb nm) {index ci k i : Nat} {cs : List Nat} {ty : FieldType} {v : Int32} (hf : sn_Fc Lo own index ci cs i 0 false ty) (hat : sn_At Lo k (.inl (ci, cs))) (hn : narrow ty (.int v) = .int v) (hfit : fits ty (.int v) = true) (hd : decode cc pc = .ok (.putfield index, 3))
    (kk : P → sn_G Lo w R Q E C mc ms (pc + 3) lv rest (sn_pI S k i v)) : P → sn_G Lo w R Q E C mc ms pc lv (.int v :: .ref (w.2.2.1 k) :: rest) S := by
  obtain ⟨CN, T, N, tyf, hin, hty, hnm, hcl, hi, hc, hq, hfin, hd2⟩ := hf
  obtain ⟨p, e, s, m, args, below, meth, c, A0⟩ := C
  intro q H locs ls hP hD hS hl hm
  refine va_put hO.1 hO.2.1 hO.2.2.2.2.2.2.1 hin tyf hty hnm hO.2.2.2.2.2.1 hO.2.2.2.2.2.2.2.1 hP hD hS k (sn_ws_get w S hat.1 hat.2) hcl i hi (hO.2.2.2.2.2.2.1 _ hq) (fun _ h => h) hfin hd2 hn hfit (by simpa [sn_fs] using (List.getElem?_eq_some_iff.mp hc).1) hd (fun H1 locs1 hP hD hS => ?_)
  rw [sn_set_pI w S v hat.1 hat.2 hc] at hP hD
  exact kk q H1 locs1 ls hP hD hS hl hm
theorem sn_putIP (hO : sn_Ok Lo w C own cc nL ret tb nm) {index ci k i : Nat} {cs : List Nat} {ty : FieldType} {v : Int32} (hf : sn_Fc Lo own index ci cs i 0 false ty) (hat : sn_At Lo k (.inl (ci, cs))) (hd : decode cc pc = .ok (.putfield index, 3))
    (kk : P → sn_G Lo w R Q E C mc ms (pc + 3) lv rest (sn_pI S k i v)) : ((narrow ty (.int v) = .int v ∧ fits ty (.int v) = true) ∧ P) → sn_G Lo w R Q E C mc ms pc lv (.int v :: .ref (w.2.2.1 k) :: rest) S := fun q => sn_putI hO hf hat q.1.1 q.1.2 hd kk q.2
theorem sn_putJ (hO : sn_Ok Lo w C own cc nL ret tb nm) {index ci k i : Nat} {cs : List Nat} {ty : FieldType} {v : Int64} (hf : sn_Fc Lo own index ci cs i 1 false ty) (hat : sn_At Lo k (.inl (ci, cs))) (hn : narrow ty (.long v) = .long v) (hfit : fits ty (.long v) = true) (hd : decode cc pc = .ok (.putfield index, 3))
    (kk : P → sn_G Lo w R Q E C mc ms (pc + 3) lv rest (sn_pJ S k i v)) : P → sn_G Lo w R Q E C mc ms pc lv (.long v :: .ref (w.2.2.1 k) :: rest) S := by
  obtain ⟨CN, T, N, tyf, hin, hty, hnm, hcl, hi, hc, hq, hfin, hd2⟩ := hf
  obtain ⟨p, e, s, m, args, below, meth, c, A0⟩ := C
  intro q H locs ls hP hD hS hl hm
  refine va_put hO.1 hO.2.1 hO.2.2.2.2.2.2.1 hin tyf hty hnm hO.2.2.2.2.2.1 hO.2.2.2.2.2.2.2.1 hP hD hS k (sn_ws_get w S hat.1 hat.2) hcl i hi (hO.2.2.2.2.2.2.1 _ hq) (fun _ h => h) hfin hd2 hn hfit (by simpa [sn_fs] using (List.getElem?_eq_some_iff.mp hc).1) hd (fun H1 locs1 hP hD hS => ?_)
  rw [sn_set_pJ w S v hat.1 hat.2 hc] at hP hD
  exact kk q H1 locs1 ls hP hD hS hl hm
theorem sn_putQ (hO : sn_Ok Lo w C own cc nL ret tb nm) {index ci k i : Nat} {cs : List Nat} {ty : FieldType} {v : Option Nat} (hf : sn_Fc Lo own index ci cs i 2 false ty) (hat : sn_At Lo k (.inl (ci, cs))) (hn : narrow ty (va_rf v) = va_rf v) (hfit : fits ty (va_rf v) = true) (hd : decode cc pc = .ok (.putfield index, 3))
    (kk : P → sn_G Lo w R Q E C mc ms (pc + 3) lv rest (sn_pR S k i v)) : P → sn_G Lo w R Q E C mc ms pc lv (va_rf v :: .ref (w.2.2.1 k) :: rest) S := by
  obtain ⟨CN, T, N, tyf, hin, hty, hnm, hcl, hi, hc, hq, hfin, hd2⟩ := hf
  obtain ⟨p, e, s, m, args, below, meth, c, A0⟩ := C
  intro q H locs ls hP hD hS hl hm
  refine va_put hO.1 hO.2.1 hO.2.2.2.2.2.2.1 hin tyf hty hnm hO.2.2.2.2.2.1 hO.2.2.2.2.2.2.2.1 hP hD hS k (sn_ws_get w S hat.1 hat.2) hcl i hi (hO.2.2.2.2.2.2.1 _ hq) (fun _ h => h) hfin hd2 hn hfit (by simpa [sn_fs] using (List.getElem?_eq_some_iff.mp hc).1) hd (fun H1 locs1 hP hD hS => ?_)
  rw [sn_set_pR w S v hat.1 hat.2 hc] at hP hD
  exact kk q H1 locs1 ls hP hD hS hl hm
theorem sn_getIN (hO : sn_Ok Lo w C own cc nL ret tb nm) {index ci k i : Nat} {cs : List Nat} {fin : Bool} {ty : FieldType} (hf : sn_FcN Lo own index ci cs i 0 fin ty) (hat : sn_At Lo k (.inl (ci, cs))) (hd : decode cc pc = .ok (.getfield index, 3))
    (kk : P → sn_G Lo w R Q E C mc ms (pc + 3) lv (.int (S.1 k i) :: rest) S) : P → sn_G Lo w R Q E C mc ms pc lv (.ref (w.2.2.1 k) :: rest) S := by
  obtain ⟨CN, host, T, N, tyf, hin, hty, hnm, hcl, hi, hc, hq, hfin, hd2⟩ := hf
  obtain ⟨p, e, s, m, args, below, meth, c, A0⟩ := C
  intro q H locs ls hP hD hS hl hm
  exact va_getN hO.1 hO.2.1 hO.2.2.2.2.2.2.1 hin hO.2.2.2.2.2.1 hO.2.2.2.2.2.2.2.1 hP k (sn_ws_get w S hat.1 hat.2) hcl i hi (va_Nw.use rfl (hq _ _ _ _ hO.2.2.2.2.2.2.2.2.2.2.1)) (fun _ h => h) (sn_fs_get w.2.2.1 S k hc) hd (kk q H locs ls hP hD hS hl hm)
theorem sn_getJN (hO : sn_Ok Lo w C own cc nL ret tb nm) {index ci k i : Nat} {cs : List Nat} {fin : Bool} {ty : FieldType} (hf : sn_FcN Lo own index ci cs i 1 fin ty) (hat : sn_At Lo k (.inl (ci, cs))) (hd : decode cc pc = .ok (.getfield index, 3))
    (kk : P → sn_G Lo w R Q E C mc ms (pc + 3) lv (.long (S.2.1 k i) :: rest) S) : P → sn_G Lo w R Q E C mc ms pc lv (.ref (w.2.2.1 k) :: rest) S := by
  obtain ⟨CN, host, T, N, tyf, hin, hty, hnm, hcl, hi, hc, hq, hfin, hd2⟩ := hf
  obtain ⟨p, e, s, m, args, below, meth, c, A0⟩ := C
  intro q H locs ls hP hD hS hl hm
  exact va_getN hO.1 hO.2.1 hO.2.2.2.2.2.2.1 hin hO.2.2.2.2.2.1 hO.2.2.2.2.2.2.2.1 hP k (sn_ws_get w S hat.1 hat.2) hcl i hi (va_Nw.use rfl (hq _ _ _ _ hO.2.2.2.2.2.2.2.2.2.2.1)) (fun _ h => h) (sn_fs_get w.2.2.1 S k hc) hd (kk q H locs ls hP hD hS hl hm)
theorem sn_getQN (hO : sn_Ok Lo w C own cc nL ret tb nm) {index ci k i : Nat} {cs : List Nat} {fin : Bool} {ty : FieldType} (hf : sn_FcN Lo own index ci cs i 2 fin ty) (hat : sn_At Lo k (.inl (ci, cs))) (hd : decode cc pc = .ok (.getfield index, 3))
    (kk : P → sn_G Lo w R Q E C mc ms (pc + 3) lv (va_rf (S.2.2.1 k i) :: rest) S) : P → sn_G Lo w R Q E C mc ms pc lv (.ref (w.2.2.1 k) :: rest) S := by
  obtain ⟨CN, host, T, N, tyf, hin, hty, hnm, hcl, hi, hc, hq, hfin, hd2⟩ := hf
  obtain ⟨p, e, s, m, args, below, meth, c, A0⟩ := C
  intro q H locs ls hP hD hS hl hm
  exact va_getN hO.1 hO.2.1 hO.2.2.2.2.2.2.1 hin hO.2.2.2.2.2.1 hO.2.2.2.2.2.2.2.1 hP k (sn_ws_get w S hat.1 hat.2) hcl i hi (va_Nw.use rfl (hq _ _ _ _ hO.2.2.2.2.2.2.2.2.2.2.1)) (fun _ h => h) (sn_fs_get w.2.2.1 S k hc) hd (kk q H locs ls hP hD hS hl hm)
theorem sn_getFN (hO : sn_Ok Lo w C own cc nL ret tb nm) {index ci k i j : Nat} {cs : List Nat} {fin : Bool} {ty : FieldType} (hf : sn_FcN Lo own index ci cs i (j + 3) fin ty) (hat : sn_At Lo k (.inl (ci, cs))) (hd : decode cc pc = .ok (.getfield index, 3))
    (kk : P → sn_G Lo w R Q E C mc ms (pc + 3) lv (.ref (w.2.2.1 j) :: rest) S) : P → sn_G Lo w R Q E C mc ms pc lv (.ref (w.2.2.1 k) :: rest) S := by
  obtain ⟨CN, host, T, N, tyf, hin, hty, hnm, hcl, hi, hc, hq, hfin, hd2⟩ := hf
  obtain ⟨p, e, s, m, args, below, meth, c, A0⟩ := C
  intro q H locs ls hP hD hS hl hm
  exact va_getN hO.1 hO.2.1 hO.2.2.2.2.2.2.1 hin hO.2.2.2.2.2.1 hO.2.2.2.2.2.2.2.1 hP k (sn_ws_get w S hat.1 hat.2) hcl i hi (va_Nw.use rfl (hq _ _ _ _ hO.2.2.2.2.2.2.2.2.2.2.1)) (fun _ h => h) (sn_fs_get w.2.2.1 S k hc) hd (kk q H locs ls hP hD hS hl hm)
theorem sn_putIN (hO : sn_Ok Lo w C own cc nL ret tb nm) {index ci k i : Nat} {cs : List Nat} {ty : FieldType} {v : Int32} (hf : sn_FcN Lo own index ci cs i 0 false ty) (hat : sn_At Lo k (.inl (ci, cs))) (hn : narrow ty (.int v) = .int v) (hfit : fits ty (.int v) = true) (hd : decode cc pc = .ok (.putfield index, 3))
    (kk : P → sn_G Lo w R Q E C mc ms (pc + 3) lv rest (sn_pI S k i v)) : P → sn_G Lo w R Q E C mc ms pc lv (.int v :: .ref (w.2.2.1 k) :: rest) S := by
  obtain ⟨CN, host, T, N, tyf, hin, hty, hnm, hcl, hi, hc, hq, hfin, hd2⟩ := hf
  obtain ⟨p, e, s, m, args, below, meth, c, A0⟩ := C
  intro q H locs ls hP hD hS hl hm
  refine va_putN hO.1 hO.2.1 hO.2.2.2.2.2.2.1 hin tyf hty hnm hO.2.2.2.2.2.1 hO.2.2.2.2.2.2.2.1 hP hD hS k (sn_ws_get w S hat.1 hat.2) hcl i hi (va_Nw.use rfl (hq _ _ _ _ hO.2.2.2.2.2.2.2.2.2.2.1)) (fun _ h => h) hfin hd2 hn hfit (by simpa [sn_fs] using (List.getElem?_eq_some_iff.mp hc).1) hd (fun H1 locs1 hP hD hS => ?_)
  rw [sn_set_pI w S v hat.1 hat.2 hc] at hP hD
  exact kk q H1 locs1 ls hP hD hS hl hm
theorem sn_putIPN (hO : sn_Ok Lo w C own cc nL ret tb nm) {index ci k i : Nat} {cs : List Nat} {ty : FieldType} {v : Int32} (hf : sn_FcN Lo own index ci cs i 0 false ty) (hat : sn_At Lo k (.inl (ci, cs))) (hd : decode cc pc = .ok (.putfield index, 3))
    (kk : P → sn_G Lo w R Q E C mc ms (pc + 3) lv rest (sn_pI S k i v)) : ((narrow ty (.int v) = .int v ∧ fits ty (.int v) = true) ∧ P) → sn_G Lo w R Q E C mc ms pc lv (.int v :: .ref (w.2.2.1 k) :: rest) S := fun q => sn_putIN hO hf hat q.1.1 q.1.2 hd kk q.2
theorem sn_putJN (hO : sn_Ok Lo w C own cc nL ret tb nm) {index ci k i : Nat} {cs : List Nat} {ty : FieldType} {v : Int64} (hf : sn_FcN Lo own index ci cs i 1 false ty) (hat : sn_At Lo k (.inl (ci, cs))) (hn : narrow ty (.long v) = .long v) (hfit : fits ty (.long v) = true) (hd : decode cc pc = .ok (.putfield index, 3))
    (kk : P → sn_G Lo w R Q E C mc ms (pc + 3) lv rest (sn_pJ S k i v)) : P → sn_G Lo w R Q E C mc ms pc lv (.long v :: .ref (w.2.2.1 k) :: rest) S := by
  obtain ⟨CN, host, T, N, tyf, hin, hty, hnm, hcl, hi, hc, hq, hfin, hd2⟩ := hf
  obtain ⟨p, e, s, m, args, below, meth, c, A0⟩ := C
  intro q H locs ls hP hD hS hl hm
  refine va_putN hO.1 hO.2.1 hO.2.2.2.2.2.2.1 hin tyf hty hnm hO.2.2.2.2.2.1 hO.2.2.2.2.2.2.2.1 hP hD hS k (sn_ws_get w S hat.1 hat.2) hcl i hi (va_Nw.use rfl (hq _ _ _ _ hO.2.2.2.2.2.2.2.2.2.2.1)) (fun _ h => h) hfin hd2 hn hfit (by simpa [sn_fs] using (List.getElem?_eq_some_iff.mp hc).1) hd (fun H1 locs1 hP hD hS => ?_)
  rw [sn_set_pJ w S v hat.1 hat.2 hc] at hP hD
  exact kk q H1 locs1 ls hP hD hS hl hm
theorem sn_putQN (hO : sn_Ok Lo w C own cc nL ret tb nm) {index ci k i : Nat} {cs : List Nat} {ty : FieldType} {v : Option Nat} (hf : sn_FcN Lo own index ci cs i 2 false ty) (hat : sn_At Lo k (.inl (ci, cs))) (hn : narrow ty (va_rf v) = va_rf v) (hfit : fits ty (va_rf v) = true) (hd : decode cc pc = .ok (.putfield index, 3))
    (kk : P → sn_G Lo w R Q E C mc ms (pc + 3) lv rest (sn_pR S k i v)) : P → sn_G Lo w R Q E C mc ms pc lv (va_rf v :: .ref (w.2.2.1 k) :: rest) S := by
  obtain ⟨CN, host, T, N, tyf, hin, hty, hnm, hcl, hi, hc, hq, hfin, hd2⟩ := hf
  obtain ⟨p, e, s, m, args, below, meth, c, A0⟩ := C
  intro q H locs ls hP hD hS hl hm
  refine va_putN hO.1 hO.2.1 hO.2.2.2.2.2.2.1 hin tyf hty hnm hO.2.2.2.2.2.1 hO.2.2.2.2.2.2.2.1 hP hD hS k (sn_ws_get w S hat.1 hat.2) hcl i hi (va_Nw.use rfl (hq _ _ _ _ hO.2.2.2.2.2.2.2.2.2.2.1)) (fun _ h => h) hfin hd2 hn hfit (by simpa [sn_fs] using (List.getElem?_eq_some_iff.mp hc).1) hd (fun H1 locs1 hP hD hS => ?_)
  rw [sn_set_pR w S v hat.1 hat.2 hc] at hP hD
  exact kk q H1 locs1 ls hP hD hS hl hm
theorem sn_iald (hO : sn_Ok Lo w C own cc nL ret tb nm) {k t n : Nat} {i : Int32} (hat : sn_At Lo k (.inr (t, n, 0))) (ht : Lo.2.2.2.1[t]? = some .int) (hd : decode cc pc = .ok (.iaload, 1))
    (kk : P → sn_G Lo w R Q E C mc ms (pc + 1) lv (.int (S.1 k i.toNatClampNeg) :: rest) S) : (vp_in i n ∧ P) → sn_G Lo w R Q E C mc ms pc lv (.int i :: .ref (w.2.2.1 k) :: rest) S := by
  obtain ⟨p, e, s, m, args, below, meth, c, A0⟩ := C
  intro q H locs ls hP hD hS hl hm
  exact va_iald hO.1 hO.2.1 hO.2.2.2.2.2.2.2.1 hP k t (sn_ws_get w S hat.1 hat.2) (sn_ty_get w ht) q.1 hd (kk q.2 H locs ls hP hD hS hl hm)
theorem sn_bald (hO : sn_Ok Lo w C own cc nL ret tb nm) {k t n : Nat} {i : Int32} (hat : sn_At Lo k (.inr (t, n, 0))) (ht : Lo.2.2.2.1[t]? = some .byte) (hd : decode cc pc = .ok (.baload, 1))
    (kk : P → sn_G Lo w R Q E C mc ms (pc + 1) lv (.int (S.1 k i.toNatClampNeg) :: rest) S) : (vp_in i n ∧ P) → sn_G Lo w R Q E C mc ms pc lv (.int i :: .ref (w.2.2.1 k) :: rest) S := by
  obtain ⟨p, e, s, m, args, below, meth, c, A0⟩ := C
  intro q H locs ls hP hD hS hl hm
  exact va_bald hO.1 hO.2.1 hO.2.2.2.2.2.2.2.1 hP k t (sn_ws_get w S hat.1 hat.2) (sn_ty_get w ht) q.1 hd (kk q.2 H locs ls hP hD hS hl hm)
theorem sn_zald (hO : sn_Ok Lo w C own cc nL ret tb nm) {k t n : Nat} {i : Int32} (hat : sn_At Lo k (.inr (t, n, 0))) (ht : Lo.2.2.2.1[t]? = some .boolean) (hd : decode cc pc = .ok (.baload, 1))
    (kk : P → sn_G Lo w R Q E C mc ms (pc + 1) lv (.int (S.1 k i.toNatClampNeg) :: rest) S) : (vp_in i n ∧ P) → sn_G Lo w R Q E C mc ms pc lv (.int i :: .ref (w.2.2.1 k) :: rest) S := by
  obtain ⟨p, e, s, m, args, below, meth, c, A0⟩ := C
  intro q H locs ls hP hD hS hl hm
  exact va_zald hO.1 hO.2.1 hO.2.2.2.2.2.2.2.1 hP k t (sn_ws_get w S hat.1 hat.2) (sn_ty_get w ht) q.1 hd (kk q.2 H locs ls hP hD hS hl hm)
theorem sn_lald (hO : sn_Ok Lo w C own cc nL ret tb nm) {k t n : Nat} {i : Int32} (hat : sn_At Lo k (.inr (t, n, 1))) (ht : Lo.2.2.2.1[t]? = some .long) (hd : decode cc pc = .ok (.laload, 1))
    (kk : P → sn_G Lo w R Q E C mc ms (pc + 1) lv (.long (S.2.1 k i.toNatClampNeg) :: rest) S) : (vp_in i n ∧ P) → sn_G Lo w R Q E C mc ms pc lv (.int i :: .ref (w.2.2.1 k) :: rest) S := by
  obtain ⟨p, e, s, m, args, below, meth, c, A0⟩ := C
  intro q H locs ls hP hD hS hl hm
  exact va_lald hO.1 hO.2.1 hO.2.2.2.2.2.2.2.1 hP k t (sn_ws_get w S hat.1 hat.2) (sn_ty_get w ht) q.1 hd (kk q.2 H locs ls hP hD hS hl hm)
theorem sn_aald (hO : sn_Ok Lo w C own cc nL ret tb nm) {k t n : Nat} {i : Int32} {CN : String} (hat : sn_At Lo k (.inr (t, n, 2))) (ht : Lo.2.2.2.1[t]? = some (.object CN)) (hd : decode cc pc = .ok (.aaload, 1))
    (kk : P → sn_G Lo w R Q E C mc ms (pc + 1) lv (va_rf (S.2.2.1 k i.toNatClampNeg) :: rest) S) : (vp_in i n ∧ P) → sn_G Lo w R Q E C mc ms pc lv (.int i :: .ref (w.2.2.1 k) :: rest) S := by
  obtain ⟨p, e, s, m, args, below, meth, c, A0⟩ := C
  intro q H locs ls hP hD hS hl hm
  exact va_aldq hO.1 hO.2.1 hO.2.2.2.2.2.2.2.1 hP k t (sn_ws_get w S hat.1 hat.2) (sn_ty_get w ht) q.1 hd (kk q.2 H locs ls hP hD hS hl hm)
theorem sn_aaldF (hO : sn_Ok Lo w C own cc nL ret tb nm) {k t n j : Nat} {i : Int32} {CN : String} (hat : sn_At Lo k (.inr (t, n, j + 3))) (ht : Lo.2.2.2.1[t]? = some (.object CN)) (hd : decode cc pc = .ok (.aaload, 1))
    (kk : P → sn_G Lo w R Q E C mc ms (pc + 1) lv (.ref (w.2.2.1 (j + 5 * i.toNatClampNeg)) :: rest) S) : (vp_in i n ∧ P) → sn_G Lo w R Q E C mc ms pc lv (.int i :: .ref (w.2.2.1 k) :: rest) S := by
  obtain ⟨p, e, s, m, args, below, meth, c, A0⟩ := C
  intro q H locs ls hP hD hS hl hm
  exact va_aldq hO.1 hO.2.1 hO.2.2.2.2.2.2.2.1 hP k t (f := fun i => some (w.2.2.1 (j + 5 * i))) (sn_ws_get w S hat.1 hat.2) (sn_ty_get w ht) q.1 hd (kk q.2 H locs ls hP hD hS hl hm)
theorem sn_iast (hO : sn_Ok Lo w C own cc nL ret tb nm) {k t n : Nat} {i x : Int32} (hat : sn_At Lo k (.inr (t, n, 0))) (ht : Lo.2.2.2.1[t]? = some .int) (hd : decode cc pc = .ok (.iastore, 1))
    (kk : P → sn_G Lo w R Q E C mc ms (pc + 1) lv rest (sn_pI S k i.toNatClampNeg x)) : (vp_in i n ∧ P) → sn_G Lo w R Q E C mc ms pc lv (.int x :: .int i :: .ref (w.2.2.1 k) :: rest) S := by
  obtain ⟨p, e, s, m, args, below, meth, c, A0⟩ := C
  intro q H locs ls hP hD hS hl hm
  refine va_iast hO.1 hO.2.1 hO.2.2.2.2.2.2.2.1 hP hD hS k t (sn_ws_get w S hat.1 hat.2) (sn_ty_get w ht) q.1 hd (fun H1 locs1 hP hD hS => ?_)
  rw [sn_set_pA w S _ hat.1 hat.2] at hP hD
  exact kk q.2 H1 locs1 ls hP hD hS hl hm
theorem sn_bast (hO : sn_Ok Lo w C own cc nL ret tb nm) {k t n : Nat} {i x : Int32} (hat : sn_At Lo k (.inr (t, n, 0))) (ht : Lo.2.2.2.1[t]? = some .byte) (hd : decode cc pc = .ok (.bastore, 1))
    (kk : P → sn_G Lo w R Q E C mc ms (pc + 1) lv rest (sn_pI S k i.toNatClampNeg (vp_nar .byte x))) : (vp_in i n ∧ P) → sn_G Lo w R Q E C mc ms pc lv (.int x :: .int i :: .ref (w.2.2.1 k) :: rest) S := by
  obtain ⟨p, e, s, m, args, below, meth, c, A0⟩ := C
  intro q H locs ls hP hD hS hl hm
  refine va_bast hO.1 hO.2.1 hO.2.2.2.2.2.2.2.1 hP hD hS k t (sn_ws_get w S hat.1 hat.2) (sn_ty_get w ht) q.1 hd (fun H1 locs1 hP hD hS => ?_)
  rw [sn_set_pA w S _ hat.1 hat.2] at hP hD
  exact kk q.2 H1 locs1 ls hP hD hS hl hm
theorem sn_zast (hO : sn_Ok Lo w C own cc nL ret tb nm) {k t n : Nat} {i x : Int32} (hat : sn_At Lo k (.inr (t, n, 0))) (ht : Lo.2.2.2.1[t]? = some .boolean) (hd : decode cc pc = .ok (.bastore, 1))
    (kk : P → sn_G Lo w R Q E C mc ms (pc + 1) lv rest (sn_pI S k i.toNatClampNeg (vp_nar .boolean x))) : (vp_in i n ∧ P) → sn_G Lo w R Q E C mc ms pc lv (.int x :: .int i :: .ref (w.2.2.1 k) :: rest) S := by
  obtain ⟨p, e, s, m, args, below, meth, c, A0⟩ := C
  intro q H locs ls hP hD hS hl hm
  refine va_zast hO.1 hO.2.1 hO.2.2.2.2.2.2.2.1 hP hD hS k t (sn_ws_get w S hat.1 hat.2) (sn_ty_get w ht) q.1 hd (fun H1 locs1 hP hD hS => ?_)
  rw [sn_set_pA w S _ hat.1 hat.2] at hP hD
  exact kk q.2 H1 locs1 ls hP hD hS hl hm
theorem sn_last (hO : sn_Ok Lo w C own cc nL ret tb nm) {k t n : Nat} {i : Int32} {x : Int64} (hat : sn_At Lo k (.inr (t, n, 1))) (ht : Lo.2.2.2.1[t]? = some .long) (hd : decode cc pc = .ok (.lastore, 1))
    (kk : P → sn_G Lo w R Q E C mc ms (pc + 1) lv rest (sn_pJ S k i.toNatClampNeg x)) : (vp_in i n ∧ P) → sn_G Lo w R Q E C mc ms pc lv (.long x :: .int i :: .ref (w.2.2.1 k) :: rest) S := by
  obtain ⟨p, e, s, m, args, below, meth, c, A0⟩ := C
  intro q H locs ls hP hD hS hl hm
  refine va_last hO.1 hO.2.1 hO.2.2.2.2.2.2.2.1 hP hD hS k t (sn_ws_get w S hat.1 hat.2) (sn_ty_get w ht) q.1 hd (fun H1 locs1 hP hD hS => ?_)
  rw [sn_set_pL w S _ hat.1 hat.2] at hP hD
  exact kk q.2 H1 locs1 ls hP hD hS hl hm
theorem sn_alen (hO : sn_Ok Lo w C own cc nL ret tb nm) {k t n : Nat} {ty : FieldType} {v : Int32} (hat : sn_At Lo k (.inr (t, n, 0))) (ht : Lo.2.2.2.1[t]? = some ty) (hv : Int32.ofNat n = v) (hd : decode cc pc = .ok (.arraylength, 1))
    (kk : P → sn_G Lo w R Q E C mc ms (pc + 1) lv (.int v :: rest) S) : P → sn_G Lo w R Q E C mc ms pc lv (.ref (w.2.2.1 k) :: rest) S := by
  obtain ⟨p, e, s, m, args, below, meth, c, A0⟩ := C
  intro q H locs ls hP hD hS hl hm
  exact va_alen hO.1 hO.2.1 hO.2.2.2.2.2.2.2.1 hP k t (sn_ws_get w S hat.1 hat.2) (sn_ty_get w ht) hv hd (kk q H locs ls hP hD hS hl hm)
theorem sn_alenL (hO : sn_Ok Lo w C own cc nL ret tb nm) {k t n : Nat} {ty : FieldType} {v : Int32} (hat : sn_At Lo k (.inr (t, n, 1))) (ht : Lo.2.2.2.1[t]? = some ty) (hv : Int32.ofNat n = v) (hd : decode cc pc = .ok (.arraylength, 1))
    (kk : P → sn_G Lo w R Q E C mc ms (pc + 1) lv (.int v :: rest) S) : P → sn_G Lo w R Q E C mc ms pc lv (.ref (w.2.2.1 k) :: rest) S := by
  obtain ⟨p, e, s, m, args, below, meth, c, A0⟩ := C
  intro q H locs ls hP hD hS hl hm
  exact va_alen hO.1 hO.2.1 hO.2.2.2.2.2.2.2.1 hP k t (sn_ws_get w S hat.1 hat.2) (sn_ty_get w ht) hv hd (kk q H locs ls hP hD hS hl hm)
theorem sn_alenQ (hO : sn_Ok Lo w C own cc nL ret tb nm) {k t n : Nat} {ty : FieldType} {v : Int32} (hat : sn_At Lo k (.inr (t, n, 2))) (ht : Lo.2.2.2.1[t]? = some ty) (hv : Int32.ofNat n = v) (hd : decode cc pc = .ok (.arraylength, 1))
    (kk : P → sn_G Lo w R Q E C mc ms (pc + 1) lv (.int v :: rest) S) : P → sn_G Lo w R Q E C mc ms pc lv (.ref (w.2.2.1 k) :: rest) S := by
  obtain ⟨p, e, s, m, args, below, meth, c, A0⟩ := C
  intro q H locs ls hP hD hS hl hm
  exact va_alen hO.1 hO.2.1 hO.2.2.2.2.2.2.2.1 hP k t (sn_ws_get w S hat.1 hat.2) (sn_ty_get w ht) hv hd (kk q H locs ls hP hD hS hl hm)
theorem sn_alenF (hO : sn_Ok Lo w C own cc nL ret tb nm) {k t n j : Nat} {ty : FieldType} {v : Int32} (hat : sn_At Lo k (.inr (t, n, (j + 3)))) (ht : Lo.2.2.2.1[t]? = some ty) (hv : Int32.ofNat n = v) (hd : decode cc pc = .ok (.arraylength, 1))
    (kk : P → sn_G Lo w R Q E C mc ms (pc + 1) lv (.int v :: rest) S) : P → sn_G Lo w R Q E C mc ms pc lv (.ref (w.2.2.1 k) :: rest) S := by
  obtain ⟨p, e, s, m, args, below, meth, c, A0⟩ := C
  intro q H locs ls hP hD hS hl hm
  exact va_alen hO.1 hO.2.1 hO.2.2.2.2.2.2.2.1 hP k t (sn_ws_get w S hat.1 hat.2) (sn_ty_get w ht) hv hd (kk q H locs ls hP hD hS hl hm)
theorem sn_iret (hO : sn_Ok Lo w C own cc nL ret tb nm) {r : Int32} {Qi : Int32 → sn_S → Prop} (hr : ret = some .int) (hd : decode cc pc = .ok (.ireturn, 1)) : Qi r S → sn_G Lo w R (sn_qI Qi) E C mc ms pc lv [.int r] S := by
  obtain ⟨p, e, s, m, args, below, meth, c, A0⟩ := C
  intro q H locs ls hP hD hS hl hm
  exact W.widen (Nat.sub_le _ _) (Nat.sub_le _ _) (vx_ret (W.iret hO.1 hO.2.1 (hO.2.2.2.1.trans hr) (fun t ht hW => ⟨⟨_, S, rfl, ⟨_, rfl, q⟩, by rw [ht]; exact hP, hD⟩, hS.F ht⟩) hS.2.2 hd hO.2.2.2.2.1))
theorem sn_lret (hO : sn_Ok Lo w C own cc nL ret tb nm) {r : Int64} {Qi : Int64 → sn_S → Prop} (hr : ret = some .long) (hd : decode cc pc = .ok (.lreturn, 1)) : Qi r S → sn_G Lo w R (sn_qL Qi) E C mc ms pc lv [.long r] S := by
  obtain ⟨p, e, s, m, args, below, meth, c, A0⟩ := C
  intro q H locs ls hP hD hS hl hm
  exact W.widen (Nat.sub_le _ _) (Nat.sub_le _ _) (vx_ret (W.lret hO.1 hO.2.1 (hO.2.2.2.1.trans hr) (fun t ht hW => ⟨⟨_, S, rfl, ⟨_, rfl, q⟩, by rw [ht]; exact hP, hD⟩, hS.F ht⟩) hS.2.2 hd hO.2.2.2.2.1))
theorem sn_zret (hO : sn_Ok Lo w C own cc nL ret tb nm) {r : Int32} {Qi : Int32 → sn_S → Prop} {ty : FieldType} (hr : ret = some ty) (hn : narrow ty (.int r) = .int r) (hd : decode cc pc = .ok (.ireturn, 1)) : Qi r S → sn_G Lo w R (sn_qI Qi) E C mc ms pc lv [.int r] S := by
  obtain ⟨p, e, s, m, args, below, meth, c, A0⟩ := C
  intro q H locs ls hP hD hS hl hm
  exact W.widen (Nat.sub_le _ _) (Nat.sub_le _ _) (vx_ret (W.zret hO.1 hO.2.1 (hO.2.2.2.1.trans hr) hn (fun t ht hW => ⟨⟨_, S, rfl, ⟨_, rfl, q⟩, by rw [ht]; exact hP, hD⟩, hS.F ht⟩) hS.2.2 hd hO.2.2.2.2.1))
theorem sn_zretP (hO : sn_Ok Lo w C own cc nL ret tb nm) {r : Int32} {Qi : Int32 → sn_S → Prop} {ty : FieldType} (hr : ret = some ty) (hd : decode cc pc = .ok (.ireturn, 1)) : (narrow ty (.int r) = .int r ∧ Qi r S) → sn_G Lo w R (sn_qI Qi) E C mc ms pc lv [.int r] S := fun q => sn_zret hO hr q.1 hd q.2
theorem sn_vret (hO : sn_Ok Lo w C own cc nL ret tb nm) {Qv : sn_S → Prop} (hr : ret = none) (hd : decode cc pc = .ok (.return_, 1)) : Qv S → sn_G Lo w R (sn_qV Qv) E C mc ms pc lv [] S := by
  obtain ⟨p, e, s, m, args, below, meth, c, A0⟩ := C
  intro q H locs ls hP hD hS hl hm
  exact W.widen (Nat.sub_le _ _) (Nat.sub_le _ _) (vx_ret (W.vret hO.1 hO.2.1 (hO.2.2.2.1.trans hr) (fun t ht hW => ⟨⟨_, S, rfl, ⟨rfl, q⟩, by rw [ht]; exact hP, hD⟩, hS.F ht⟩) hS.2.2 hd hO.2.2.2.2.1))
theorem sn_aret (hO : sn_Ok Lo w C own cc nL ret tb nm) {r : Nat} {Qr : Nat → sn_S → Prop} {rt : FieldType} (hr : ret = some rt) (hrt : (∃ n, rt = .object n) ∨ ∃ t, rt = .array t) (hd : decode cc pc = .ok (.areturn, 1)) : Qr r S → sn_G Lo w R (sn_qA Qr) E C mc ms pc lv [.ref r] S := by
  obtain ⟨p, e, s, m, args, below, meth, c, A0⟩ := C
  intro q H locs ls hP hD hS hl hm
  exact W.widen (Nat.sub_le _ _) (Nat.sub_le _ _) (vx_ret (W.aret hO.1 hO.2.1 (hO.2.2.2.1.trans hr) hrt (Or.inr ⟨_, rfl⟩) (fun t ht hW => ⟨⟨_, S, rfl, ⟨_, rfl, q⟩, by rw [ht]; exact hP, hD⟩, hS.F ht⟩) hS.2.2 hd hO.2.2.2.2.1))
theorem sn_qret (hO : sn_Ok Lo w C own cc nL ret tb nm) {r : Option Nat} {Qr : Option Nat → sn_S → Prop} {rt : FieldType} (hr : ret = some rt) (hrt : (∃ n, rt = .object n) ∨ ∃ t, rt = .array t) (hd : decode cc pc = .ok (.areturn, 1)) : Qr r S → sn_G Lo w R (sn_qR Qr) E C mc ms pc lv [va_rf r] S := by
  obtain ⟨p, e, s, m, args, below, meth, c, A0⟩ := C
  intro q H locs ls hP hD hS hl hm
  exact W.widen (Nat.sub_le _ _) (Nat.sub_le _ _) (vx_ret (W.aret hO.1 hO.2.1 (hO.2.2.2.1.trans hr) hrt (by cases r; exact Or.inl rfl; exact Or.inr ⟨_, rfl⟩) (fun t ht hW => ⟨⟨_, S, rfl, ⟨_, rfl, q⟩, by rw [ht]; exact hP, hD⟩, hS.F ht⟩) hS.2.2 hd hO.2.2.2.2.1))
/-- a throw that isn't caught here -/
theorem sn_xout (hO : sn_Ok Lo w C own cc nL ret [] nm) {cl : String} {q : Nat} : E cl q S → sn_X Lo w R Q E C mc ms pc lv cl q S := by
  obtain ⟨p, e, s, m, args, below, meth, c, A0⟩ := C
  intro h H locs ls st hP hD hS hl hm ⟨ce, h1, h2, h3⟩
  exact vx_out (fun x hx => by rw [hO.2.2.2.2.2.2.2.2.2.2.2.1] at hx; cases hx) hO.2.2.2.2.1 h1 h2 h3 (fun t ht hv => ⟨⟨S, h, by rw [ht]; exact hP, hD⟩, hS.F ht⟩) hS.2.2 (Nat.sub_le _ _) (Nat.sub_le _ _)
/-- .. that is caught by the only row of the table -/
theorem sn_xcatch {x : ExceptionTableEntry} (hO : sn_Ok Lo w C own cc nL ret [x] nm) {cl name : String} {q : Nat} (hx : covers x pc = true) (h0 : x.catchType ≠ 0) (hlink : Cond.classLink own x.catchType name ∈ lw_all) (hcast : ∀ w A U H, Lo.2.2.2.2 w A U H → va_Nw (.castable cl name) U) (k : P → sn_G Lo w R Q E C mc ms x.handlerPc lv [.ref q] S) : P → sn_X Lo w R Q E C mc ms pc lv cl q S := by
  obtain ⟨p, e, s, m, args, below, meth, c, A0⟩ := C
  intro h H locs ls st hP hD hS hl hm ⟨ce, h1, h2, h3⟩
  exact vx_catch hO.2.2.2.2.2.1 [] x [] hO.2.2.2.2.2.2.2.2.2.2.2.1 (fun z hz => nomatch hz) hx h0 (hO.2.2.2.2.2.2.1 _ hlink) (va_Nw.use rfl (hcast _ _ _ _ hO.2.2.2.2.2.2.2.2.2.2.1)) h1 h2 h3 (k h H locs ls hP hD hS hl hm)
theorem sn_athrow (hO : sn_Ok Lo w C own cc nL ret tb nm) {ci q0 a : Nat} {CN : String} {T : u_T} {N : Nat} {fs : List Value} (hq0 : P → (sn_ws Lo w S)[q0]? = some (a, .inr (ci, fs))) (hci : Lo.2.2.1[ci]? = some (CN, T, N)) (hd : decode cc pc = .ok (.athrow, 1)) (k : P → sn_X Lo w R Q E C mc ms pc lv CN a S) : P → sn_G Lo w R Q E C mc ms pc lv (.ref a :: rest) S := by
  obtain ⟨p, e, s, m, args, below, meth, c, A0⟩ := C
  intro q H locs ls hP hD hS hl hm
  refine vx_athrow hO.1 hO.2.1 hd (k q H locs ls rest hP hD hS hl hm ?_)
  obtain ⟨q', h1, cell, g1, g2, g3, -⟩ := hP q0 _ (hq0 q)
  exact ⟨cell, g1, g3, by rw [g2]; exact (hO.2.2.2.2.2.2.2.1.1 ci _ hci).2.1⟩
theorem sn_call {s : State} {H : Heap} {locs : List Loc} {cells slots mY sY : Nat} {ls : Array Slot} {stk : List Value} {p : Program} {e : Env} {m : MethodId} {args a : Array Value} {below : List Frame} {meth : Method} {c : Code} {A0 : Nat → Prop} {Qy : Option Value → sn_S → Prop} {Ey : sn_E} {Qf : State → Prop} {l : Launch}
    (hr : vx_Run p l e R s m args below meth c H locs cells slots mY sY (F0 m pc ls stk) rest (sn_Q Lo w (va_A (sn_ws Lo w S) H.size) Qy a) (sn_XC Lo w (va_A (sn_ws Lo w S) H.size) Ey) (va_A (sn_ws Lo w S) H.size)) (hD : va_D A0 (sn_ws Lo w S)) (hS : va_S A0 s.heap H locs) (hA : ∀ q : Nat, s.heap.size ≤ q → A0 q)
    (kk : ∀ (v : Option Value) (S1 : sn_S) (H1 : Heap) (locs1 : List Loc), Qy v S1 → va_P w.1 Lo.2.2.1 (sn_ws Lo w S1) H1 → va_D A0 (sn_ws Lo w S1) → va_S A0 s.heap H1 locs1 → W p l e R s m args below meth c H1 locs1 (cells + mY) (slots + sY) Qf (F0 m (pc + 3) ls (v.toList ++ rest)))
    (kx : ∀ (cl : String) (q : Nat) (S1 : sn_S) (H1 : Heap) (locs1 : List Loc), Ey cl q S1 → va_P w.1 Lo.2.2.1 (sn_ws Lo w S1) H1 → va_D A0 (sn_ws Lo w S1) → va_S A0 s.heap H1 locs1 → (∃ ce : Cell, H1[q]? = some ce ∧ ce.vm = .none ∧ s.vm.findClass cl = some ce.cls) → vx_W p l e R s m args below meth c H1 locs1 (cells + mY) (slots + sY) Qf (F0 m pc ls rest) q) : W p l e R s m args below meth c H locs cells slots Qf (F0 m pc ls stk) := by
  have hF : ∀ q, va_A (sn_ws Lo w S) H.size q → A0 q := by
    intro q h
    rcases h with ⟨k, x, h⟩ | h
    · exact hD.2 k _ h
    · exact hA q (Nat.le_trans hS.1 h)
  intro T hT X
  rcases hr T hT X with ⟨v, st₀, t, T', L, h0, X', hL, e1, e2, ⟨⟨v', S1, hv, hq, hP1, hD1⟩, hFr⟩, st⟩ | ⟨q, st₀, t, T', L, cl, ce, h0, X', hL, e1, e2, ⟨⟨S1, hq, hP1, hD1⟩, hFr⟩, hce, hcv, hcl, st⟩
  · cases hv
    obtain ⟨-, -, k3⟩ := vx_keep h0 e1 hS (fun q _ h => hF q h) hF hL hFr
    obtain ⟨t2, a1, b1⟩ := kk _ S1 T'.heap (locs ++ L) hq (by rw [e1]; exact hP1) (hD1.weaken fun k q _ h => hF _ h) k3 T' rfl X'
    exact ⟨t2, st t2 a1, b1⟩
  · obtain ⟨-, -, k3⟩ := vx_keep h0 e1 hS (fun q _ h => hF q h) hF hL hFr
    obtain ⟨t2, a1, b1⟩ := kx cl q S1 T'.heap (locs ++ L) hq (by rw [e1]; exact hP1) (hD1.weaken fun k q _ h => hF _ h) k3 ⟨ce, by rw [e1]; exact hce, hcv, hcl⟩ T' rfl X'
    exact ⟨t2, st.trans a1, b1⟩
theorem sn_blind {Lo : sn_Lo} {w : sn_W} {vs : List Value} {S : sn_S} {sz : Nat} (hX : sn_XO (Lo.2.2.2.2 w)) : FrameBlind (va_Pc vs (fun U => U.heap.size = sz ∧ va_P w.1 Lo.2.2.1 (sn_ws Lo w S) U.heap ∧ va_K w.1 Lo.2.2.1 (sn_ty Lo w) U ∧ va_D (fun _ => True) (sn_ws Lo w S) ∧ Lo.2.2.2.2 w (va_A (sn_ws Lo w S) sz) U U.heap)) := by
  intro a U g mk h
  obtain ⟨h1, h2, h3, h4, h5, h6⟩ := h
  exact ⟨h1, h2, h3, va_K.moved (u := U) (U := U.calling g mk a) (Vm.Alike.refl U.vm) h4, h5, hX.1 _ U (U.calling g mk a) U.heap (State.WarmedH.refl U) h6⟩
theorem sn_pre {Lo : sn_Lo} {w : sn_W} {vs : List Value} {S : sn_S} {s : State} {H : Heap} {A0 : Nat → Prop} {locs : List Loc} (hX : sn_XO (Lo.2.2.2.2 w)) (hX0 : Lo.2.2.2.2 w A0 s s.heap) (hK : va_K w.1 Lo.2.2.1 (sn_ty Lo w) s) (hP : va_P w.1 Lo.2.2.1 (sn_ws Lo w S) H) (hD : va_D A0 (sn_ws Lo w S)) (hS : va_S A0 s.heap H locs) (hA : ∀ q : Nat, s.heap.size ≤ q → A0 q) : ∀ U : State, U.heap = H → s.WarmedH U.vm → va_Pc vs (fun U => U.heap.size = H.size ∧ va_P w.1 Lo.2.2.1 (sn_ws Lo w S) U.heap ∧ va_K w.1 Lo.2.2.1 (sn_ty Lo w) U ∧ va_D (fun _ => True) (sn_ws Lo w S) ∧ Lo.2.2.2.2 w (va_A (sn_ws Lo w S) H.size) U U.heap) vs.toArray U := by
  have hF : ∀ q, va_A (sn_ws Lo w S) H.size q → A0 q := by
    intro q h
    rcases h with ⟨k, x, h⟩ | h
    · exact hD.2 k _ h
    · exact hA q (Nat.le_trans hS.1 h)
  intro U hU hW
  refine ⟨rfl, by rw [hU], by rw [hU]; exact hP, va_K.moved hW.alike hK, hD.weaken (fun _ _ _ _ => trivial), ?_⟩
  rw [hU]
  exact hX.2.2 _ _ _ _ hF (hX.1 _ s U H hW (hX.2.1 A0 s s.heap H hS.2.1 hX0))
/-- a call's words and head: through an object; of a private method of a nest mate; of a static method; of a nest mate's; of a constructor; of a nest mate's; of a method named in a class above -/
def sn_Cv (Lo : sn_Lo) (own : String) (index : Nat) (y : MethodName) (by_ : ByteArray) (nY : Nat) (rY : Option FieldType) (n ci : Nat) : Prop := ∃ (CN : String) (T : u_T) (N : Nat), GoodIn lw_all (wsV own index CN y (ws_ y by_ nY rY)) ∧ Lo.2.2.1[ci]? = some (CN, T, N) ∧ (y.cls = CN ∧ y.cls ≠ "java/lang/invoke/MethodHandle" ∧ y.cls ≠ "java/lang/invoke/VarHandle" ∧ (parseMethodDescriptor y.desc).map (fun d => d.parameters.length) = some n)
def sn_CvW (Lo : sn_Lo) (own : String) (index : Nat) (y : MethodName) (by_ : ByteArray) (nY : Nat) (rY : Option FieldType) (hh : List (Nat × Nat × Nat × Nat)) (n ci : Nat) : Prop := ∃ (CN : String) (T : u_T) (N : Nat), GoodIn lw_all (wsV own index CN y (wsW_ y by_ nY rY hh)) ∧ Lo.2.2.1[ci]? = some (CN, T, N) ∧ (y.cls = CN ∧ y.cls ≠ "java/lang/invoke/MethodHandle" ∧ y.cls ≠ "java/lang/invoke/VarHandle" ∧ (parseMethodDescriptor y.desc).map (fun d => d.parameters.length) = some n)
def sn_CvN (Lo : sn_Lo) (own : String) (index : Nat) (y : MethodName) (by_ : ByteArray) (nY : Nat) (rY : Option FieldType) (n ci : Nat) : Prop := ∃ (CN host : String) (T : u_T) (N : Nat), GoodIn lw_all (ws_ y by_ nY rY) ∧ Cond.initialized y.cls ∈ lw_all ∧ Cond.instanceMethod y ∈ lw_all ∧ Cond.selects CN y y ∈ lw_all ∧ (∀ w A U H, Lo.2.2.2.2 w A U H → va_Nw (.methodLinkNest own index y host) U) ∧ Lo.2.2.1[ci]? = some (CN, T, N) ∧ (y.cls ≠ "java/lang/invoke/MethodHandle" ∧ y.cls ≠ "java/lang/invoke/VarHandle" ∧ (parseMethodDescriptor y.desc).map (fun d => d.parameters.length) = some n)
def sn_Cs (own : String) (index : Nat) (y : MethodName) (by_ : ByteArray) (nY : Nat) (rY : Option FieldType) (n : Nat) : Prop := GoodIn lw_all (va_wsS own index y (ws_ y by_ nY rY)) ∧ (y.cls ≠ "java/lang/invoke/MethodHandle" ∧ y.cls ≠ "java/lang/invoke/VarHandle" ∧ (parseMethodDescriptor y.desc).map (fun d => d.parameters.length) = some n)
def sn_CsN (Lo : sn_Lo) (own : String) (index : Nat) (y : MethodName) (by_ : ByteArray) (nY : Nat) (rY : Option FieldType) (n : Nat) : Prop := ∃ host : String, GoodIn lw_all (ws_ y by_ nY rY) ∧ Cond.initialized y.cls ∈ lw_all ∧ Cond.static y ∈ lw_all ∧ (∀ w A U H, Lo.2.2.2.2 w A U H → va_Nw (.methodLinkNest own index y host) U) ∧ (y.cls ≠ "java/lang/invoke/MethodHandle" ∧ y.cls ≠ "java/lang/invoke/VarHandle" ∧ (parseMethodDescriptor y.desc).map (fun d => d.parameters.length) = some n)
def sn_Ci (own : String) (index : Nat) (y : MethodName) (by_ : ByteArray) (nY : Nat) (n : Nat) : Prop := GoodIn lw_all (ws_ y by_ nY none) ∧ Cond.initialized y.cls ∈ lw_all ∧ Cond.methodLink own index y ∈ lw_all ∧ Cond.instanceMethod y ∈ lw_all ∧ y.name = "<init>" ∧ (y.cls ≠ "java/lang/invoke/MethodHandle" ∧ y.cls ≠ "java/lang/invoke/VarHandle" ∧ (parseMethodDescriptor y.desc).map (fun d => d.parameters.length) = some n)
def sn_CiN (Lo : sn_Lo) (own : String) (index : Nat) (y : MethodName) (by_ : ByteArray) (nY : Nat) (n : Nat) : Prop := ∃ host : String, GoodIn lw_all (ws_ y by_ nY none) ∧ Cond.initialized y.cls ∈ lw_all ∧ Cond.instanceMethod y ∈ lw_all ∧ y.name = "<init>" ∧ (∀ w A U H, Lo.2.2.2.2 w A U H → va_Nw (.methodLinkNest own index y host) U) ∧ (y.cls ≠ "java/lang/invoke/MethodHandle" ∧ y.cls ≠ "java/lang/invoke/VarHandle" ∧ (parseMethodDescriptor y.desc).map (fun d => d.parameters.length) = some n)
def sn_CvA (Lo : sn_Lo) (own : String) (index : Nat) (x y : MethodName) (by_ : ByteArray) (nY : Nat) (rY : Option FieldType) (n ci : Nat) : Prop := ∃ (CN owner : String) (T : u_T) (N : Nat), GoodIn lw_all (va_wsU own index CN owner x y (ws_ y by_ nY rY)) ∧ (∀ w A U H, Lo.2.2.2.2 w A U H → va_Nw (.declares ⟨owner, x.name, x.desc⟩) U) ∧ Lo.2.2.1[ci]? = some (CN, T, N) ∧ (owner ≠ "java/lang/invoke/MethodHandle" ∧ owner ≠ "java/lang/invoke/VarHandle" ∧ (parseMethodDescriptor x.desc).map (fun d => d.parameters.length) = some n)
/-- the object at a lies in the world, of class ci -/
def sn_Rv (Lo : sn_Lo) (w : sn_W) (S : sn_S) (a ci : Nat) : Prop := ∃ (q0 : Nat) (fs : List Value), (sn_ws Lo w S)[q0]? = some (a, .inr (ci, fs))
theorem sn_Rv_K {k ci : Nat} {cs : List Nat} (hat : sn_At Lo k (.inl (ci, cs))) : sn_Rv Lo w S (w.2.2.1 k) ci := ⟨k, _, sn_ws_get w S hat.1 hat.2⟩
theorem sn_callV (hO : sn_Ok Lo w C own cc nL ret tb nm) {a ci : Nat} {y : MethodName} {by_ : ByteArray} {nY : Nat} {rY : Option FieldType} {rm : Room} {index n c2 s2 : Nat} {Qy : Option Value → sn_S → Prop} {Ey : sn_E} (As : List Value) (hC : sn_Cv Lo own index y by_ nY rY n ci) (hv : P → sn_Rv Lo w S a ci) (hM : P → sn_Ct Lo w y (ws_ y by_ nY rY) rm (.ref a :: As) S Qy Ey) (hR : rm.frames + 1 ≤ R.frames ∧ 8 + (nY + 11) + rm.locals ≤ R.locals) (hn : As.length = n) (hst : st = As.reverse ++ .ref a :: rest) (hw : (rest.map fun v => v.category).sum ≤ 8) (hb2 : rm.cells ≤ mc ∧ rm.slots ≤ ms ∧ mc - rm.cells = c2 ∧ ms - rm.slots = s2) (hd : decode cc pc = .ok (.invokevirtual index, 3))
    (kk : P → ∀ (v : Option Value) (S1 : sn_S), Qy v S1 → sn_G Lo w R Q E C c2 s2 (pc + 3) lv (v.toList ++ rest) S1) (kx : P → ∀ (cl : String) (q : Nat) (S1 : sn_S), Ey cl q S1 → sn_X Lo w R Q E C c2 s2 pc lv cl q S1) : P → sn_G Lo w R Q E C mc ms pc lv st S := by
  subst hst
  obtain ⟨p, e, s, m, args, below, meth, c, A0⟩ := C
  intro q H locs ls hP hD hS hl hm
  obtain ⟨hb2a, hb2b, rfl, rfl⟩ := hb2
  have hw1 : R.cells - mc + rm.cells ≤ R.cells - (mc - rm.cells) := by omega
  have hw2 : R.slots - ms + rm.slots ≤ R.slots - (ms - rm.slots) := by omega
  have hm2 : mc - rm.cells ≤ R.cells ∧ ms - rm.slots ≤ R.slots := ⟨by omega, by omega⟩
  obtain ⟨hx, hb, hml, hr, hlk, ho, hts, hK, hA, hX, hX0, htb, hnm⟩ := hO
  obtain ⟨CN, T, N, hT, hci, hd0⟩ := hC
  obtain ⟨q0, fs, hq0⟩ := hv q
  have hrun := vx_runV (cells := R.cells - mc) (slots := R.slots - ms) (locs := locs) (e := e) (args := args) (below := below) (meth := meth) (g := F0 m pc ls (As.reverse ++ .ref a :: rest)) (As := As) (rest := rest) (b := a) ⟨hx, hb, hml, ho, hts⟩ (hM q H.size) (cwV n hts hT rfl rfl rfl hd0 hR) ⟨sn_blind hX, va_recv hK hP hci hq0, sn_pre hX hX0 hK hP hD hS hA⟩ rfl hn (by rw [← hml]; exact hl.1) rfl (lv_room (pc := pc) (ls := ls) (rest := As.reverse ++ .ref a :: rest) hw) hd ⟨Nat.le_trans hw1 (Nat.sub_le _ _), Nat.le_trans hw2 (Nat.sub_le _ _)⟩
  exact sn_call hrun hD hS hA (fun v S1 H1 locs1 hq hP hD hS => W.widen hw1 hw2 (kk q v S1 hq H1 locs1 ls hP hD hS hl hm2)) (fun cl q9 S1 H1 locs1 hq hP hD hS hc => vx_widen hw1 hw2 (kx q cl q9 S1 hq H1 locs1 ls rest hP hD hS hl hm2 hc))
theorem sn_callVW (hO : sn_Ok Lo w C own cc nL ret tb nm) {a ci : Nat} {hh : List (Nat × Nat × Nat × Nat)} {y : MethodName} {by_ : ByteArray} {nY : Nat} {rY : Option FieldType} {rm : Room} {index n c2 s2 : Nat} {Qy : Option Value → sn_S → Prop} {Ey : sn_E} (As : List Value) (hC : sn_CvW Lo own index y by_ nY rY hh n ci) (hv : P → sn_Rv Lo w S a ci) (hM : P → sn_Ct Lo w y (wsW_ y by_ nY rY hh) rm (.ref a :: As) S Qy Ey) (hR : rm.frames + 1 ≤ R.frames ∧ 8 + (nY + 11) + rm.locals ≤ R.locals) (hn : As.length = n) (hst : st = As.reverse ++ .ref a :: rest) (hw : (rest.map fun v => v.category).sum ≤ 8) (hb2 : rm.cells ≤ mc ∧ rm.slots ≤ ms ∧ mc - rm.cells = c2 ∧ ms - rm.slots = s2) (hd : decode cc pc = .ok (.invokevirtual index, 3))
    (kk : P → ∀ (v : Option Value) (S1 : sn_S), Qy v S1 → sn_G Lo w R Q E C c2 s2 (pc + 3) lv (v.toList ++ rest) S1) (kx : P → ∀ (cl : String) (q : Nat) (S1 : sn_S), Ey cl q S1 → sn_X Lo w R Q E C c2 s2 pc lv cl q S1) : P → sn_G Lo w R Q E C mc ms pc lv st S := by
  subst hst
  obtain ⟨p, e, s, m, args, below, meth, c, A0⟩ := C
  intro q H locs ls hP hD hS hl hm
  obtain ⟨hb2a, hb2b, rfl, rfl⟩ := hb2
  have hw1 : R.cells - mc + rm.cells ≤ R.cells - (mc - rm.cells) := by omega
  have hw2 : R.slots - ms + rm.slots ≤ R.slots - (ms - rm.slots) := by omega
  have hm2 : mc - rm.cells ≤ R.cells ∧ ms - rm.slots ≤ R.slots := ⟨by omega, by omega⟩
  obtain ⟨hx, hb, hml, hr, hlk, ho, hts, hK, hA, hX, hX0, htb, hnm⟩ := hO
  obtain ⟨CN, T, N, hT, hci, hd0⟩ := hC
  obtain ⟨q0, fs, hq0⟩ := hv q
  have hrun := vx_runVX (cells := R.cells - mc) (slots := R.slots - ms) (locs := locs) (e := e) (args := args) (below := below) (meth := meth) (g := F0 m pc ls (As.reverse ++ .ref a :: rest)) (As := As) (rest := rest) (b := a) ⟨hx, hb, hml, ho, hts⟩ (hM q H.size) (vx_cwVW n hts hT rfl rfl rfl hd0 hR) ⟨sn_blind hX, va_recv hK hP hci hq0, sn_pre hX hX0 hK hP hD hS hA⟩ rfl hn (by rw [← hml]; exact hl.1) rfl (lv_room (pc := pc) (ls := ls) (rest := As.reverse ++ .ref a :: rest) hw) hd ⟨Nat.le_trans hw1 (Nat.sub_le _ _), Nat.le_trans hw2 (Nat.sub_le _ _)⟩
  exact sn_call hrun hD hS hA (fun v S1 H1 locs1 hq hP hD hS => W.widen hw1 hw2 (kk q v S1 hq H1 locs1 ls hP hD hS hl hm2)) (fun cl q9 S1 H1 locs1 hq hP hD hS hc => vx_widen hw1 hw2 (kx q cl q9 S1 hq H1 locs1 ls rest hP hD hS hl hm2 hc))
theorem sn_callVN (hO : sn_Ok Lo w C own cc nL ret tb nm) {a ci : Nat} {y : MethodName} {by_ : ByteArray} {nY : Nat} {rY : Option FieldType} {rm : Room} {index n c2 s2 : Nat} {Qy : Option Value → sn_S → Prop} {Ey : sn_E} (As : List Value) (hC : sn_CvN Lo own index y by_ nY rY n ci) (hv : P → sn_Rv Lo w S a ci) (hM : P → sn_Ct Lo w y (ws_ y by_ nY rY) rm (.ref a :: As) S Qy Ey) (hR : rm.frames + 1 ≤ R.frames ∧ 8 + (nY + 11) + rm.locals ≤ R.locals) (hn : As.length = n) (hst : st = As.reverse ++ .ref a :: rest) (hw : (rest.map fun v => v.category).sum ≤ 8) (hb2 : rm.cells ≤ mc ∧ rm.slots ≤ ms ∧ mc - rm.cells = c2 ∧ ms - rm.slots = s2) (hd : decode cc pc = .ok (.invokevirtual index, 3))
    (kk : P → ∀ (v : Option Value) (S1 : sn_S), Qy v S1 → sn_G Lo w R Q E C c2 s2 (pc + 3) lv (v.toList ++ rest) S1) (kx : P → ∀ (cl : String) (q : Nat) (S1 : sn_S), Ey cl q S1 → sn_X Lo w R Q E C c2 s2 pc lv cl q S1) : P → sn_G Lo w R Q E C mc ms pc lv st S := by
  subst hst
  obtain ⟨p, e, s, m, args, below, meth, c, A0⟩ := C
  intro q H locs ls hP hD hS hl hm
  obtain ⟨hb2a, hb2b, rfl, rfl⟩ := hb2
  have hw1 : R.cells - mc + rm.cells ≤ R.cells - (mc - rm.cells) := by omega
  have hw2 : R.slots - ms + rm.slots ≤ R.slots - (ms - rm.slots) := by omega
  have hm2 : mc - rm.cells ≤ R.cells ∧ ms - rm.slots ≤ R.slots := ⟨by omega, by omega⟩
  obtain ⟨hx, hb, hml, hr, hlk, ho, hts, hK, hA, hX, hX0, htb, hnm⟩ := hO
  obtain ⟨CN, host, T, N, hT, h1, h2, h3, hN, hci, hd0⟩ := hC
  obtain ⟨q0, fs, hq0⟩ := hv q
  have hrun := vx_runVN (cells := R.cells - mc) (slots := R.slots - ms) (locs := locs) (e := e) (args := args) (below := below) (meth := meth) (g := F0 m pc ls (As.reverse ++ .ref a :: rest)) (As := As) (rest := rest) (b := a) ⟨hx, hb, hml, ho, hts⟩ (hM q H.size) ⟨va_cnB n hts hT rfl rfl rfl (hN _ _ _ _ hX0) (hts _ h1) hd0 hR, hts _ h2, hts _ h3⟩ ⟨sn_blind hX, va_recv hK hP hci hq0, sn_pre hX hX0 hK hP hD hS hA⟩ rfl hn (by rw [← hml]; exact hl.1) rfl (lv_room (pc := pc) (ls := ls) (rest := As.reverse ++ .ref a :: rest) hw) hd ⟨Nat.le_trans hw1 (Nat.sub_le _ _), Nat.le_trans hw2 (Nat.sub_le _ _)⟩
  exact sn_call hrun hD hS hA (fun v S1 H1 locs1 hq hP hD hS => W.widen hw1 hw2 (kk q v S1 hq H1 locs1 ls hP hD hS hl hm2)) (fun cl q9 S1 H1 locs1 hq hP hD hS hc => vx_widen hw1 hw2 (kx q cl q9 S1 hq H1 locs1 ls rest hP hD hS hl hm2 hc))
theorem sn_callA (hO : sn_Ok Lo w C own cc nL ret tb nm) {a ci : Nat} {x : MethodName} {y : MethodName} {by_ : ByteArray} {nY : Nat} {rY : Option FieldType} {rm : Room} {index n c2 s2 : Nat} {Qy : Option Value → sn_S → Prop} {Ey : sn_E} (As : List Value) (hC : sn_CvA Lo own index x y by_ nY rY n ci) (hv : P → sn_Rv Lo w S a ci) (hM : P → sn_Ct Lo w y (ws_ y by_ nY rY) rm (.ref a :: As) S Qy Ey) (hR : rm.frames + 1 ≤ R.frames ∧ 8 + (nY + 11) + rm.locals ≤ R.locals) (hn : As.length = n) (hst : st = As.reverse ++ .ref a :: rest) (hw : (rest.map fun v => v.category).sum ≤ 8) (hb2 : rm.cells ≤ mc ∧ rm.slots ≤ ms ∧ mc - rm.cells = c2 ∧ ms - rm.slots = s2) (hd : decode cc pc = .ok (.invokevirtual index, 3))
    (kk : P → ∀ (v : Option Value) (S1 : sn_S), Qy v S1 → sn_G Lo w R Q E C c2 s2 (pc + 3) lv (v.toList ++ rest) S1) (kx : P → ∀ (cl : String) (q : Nat) (S1 : sn_S), Ey cl q S1 → sn_X Lo w R Q E C c2 s2 pc lv cl q S1) : P → sn_G Lo w R Q E C mc ms pc lv st S := by
  subst hst
  obtain ⟨p, e, s, m, args, below, meth, c, A0⟩ := C
  intro q H locs ls hP hD hS hl hm
  obtain ⟨hb2a, hb2b, rfl, rfl⟩ := hb2
  have hw1 : R.cells - mc + rm.cells ≤ R.cells - (mc - rm.cells) := by omega
  have hw2 : R.slots - ms + rm.slots ≤ R.slots - (ms - rm.slots) := by omega
  have hm2 : mc - rm.cells ≤ R.cells ∧ ms - rm.slots ≤ R.slots := ⟨by omega, by omega⟩
  obtain ⟨hx, hb, hml, hr, hlk, ho, hts, hK, hA, hX, hX0, htb, hnm⟩ := hO
  obtain ⟨CN, owner, T, N, hT, hN, hci, hd0⟩ := hC
  obtain ⟨q0, fs, hq0⟩ := hv q
  have hrun := vx_runU (cells := R.cells - mc) (slots := R.slots - ms) (locs := locs) (e := e) (args := args) (below := below) (meth := meth) (g := F0 m pc ls (As.reverse ++ .ref a :: rest)) (As := As) (rest := rest) (b := a) ⟨hx, hb, hml, ho, hts⟩ (hM q H.size) (va_cwA n hts hT rfl rfl rfl (hN _ _ _ _ hX0) hd0 hR) ⟨sn_blind hX, va_recv hK hP hci hq0, sn_pre hX hX0 hK hP hD hS hA⟩ rfl hn (by rw [← hml]; exact hl.1) rfl (lv_room (pc := pc) (ls := ls) (rest := As.reverse ++ .ref a :: rest) hw) hd ⟨Nat.le_trans hw1 (Nat.sub_le _ _), Nat.le_trans hw2 (Nat.sub_le _ _)⟩
  exact sn_call hrun hD hS hA (fun v S1 H1 locs1 hq hP hD hS => W.widen hw1 hw2 (kk q v S1 hq H1 locs1 ls hP hD hS hl hm2)) (fun cl q9 S1 H1 locs1 hq hP hD hS hc => vx_widen hw1 hw2 (kx q cl q9 S1 hq H1 locs1 ls rest hP hD hS hl hm2 hc))
theorem sn_callS (hO : sn_Ok Lo w C own cc nL ret tb nm)  {y : MethodName} {by_ : ByteArray} {nY : Nat} {rY : Option FieldType} {rm : Room} {index n c2 s2 : Nat} {Qy : Option Value → sn_S → Prop} {Ey : sn_E} (As : List Value) (hC : sn_Cs own index y by_ nY rY n) (hM : P → sn_Ct Lo w y (ws_ y by_ nY rY) rm (As) S Qy Ey) (hR : rm.frames + 1 ≤ R.frames ∧ 8 + (nY + 11) + rm.locals ≤ R.locals) (hn : As.length = n) (hst : st = As.reverse ++ rest) (hw : (rest.map fun v => v.category).sum ≤ 8) (hb2 : rm.cells ≤ mc ∧ rm.slots ≤ ms ∧ mc - rm.cells = c2 ∧ ms - rm.slots = s2) (hd : decode cc pc = .ok (.invokestatic index, 3))
    (kk : P → ∀ (v : Option Value) (S1 : sn_S), Qy v S1 → sn_G Lo w R Q E C c2 s2 (pc + 3) lv (v.toList ++ rest) S1) (kx : P → ∀ (cl : String) (q : Nat) (S1 : sn_S), Ey cl q S1 → sn_X Lo w R Q E C c2 s2 pc lv cl q S1) : P → sn_G Lo w R Q E C mc ms pc lv st S := by
  subst hst
  obtain ⟨p, e, s, m, args, below, meth, c, A0⟩ := C
  intro q H locs ls hP hD hS hl hm
  obtain ⟨hb2a, hb2b, rfl, rfl⟩ := hb2
  have hw1 : R.cells - mc + rm.cells ≤ R.cells - (mc - rm.cells) := by omega
  have hw2 : R.slots - ms + rm.slots ≤ R.slots - (ms - rm.slots) := by omega
  have hm2 : mc - rm.cells ≤ R.cells ∧ ms - rm.slots ≤ R.slots := ⟨by omega, by omega⟩
  obtain ⟨hx, hb, hml, hr, hlk, ho, hts, hK, hA, hX, hX0, htb, hnm⟩ := hO
  obtain ⟨hT, hd0⟩ := hC
  have hrun := vx_runS (cells := R.cells - mc) (slots := R.slots - ms) (locs := locs) (e := e) (args := args) (below := below) (meth := meth) (g := F0 m pc ls (As.reverse ++ rest)) (As := As) (rest := rest) ⟨hx, hb, hml, ho, hts⟩ (hM q H.size) (va_cwS n hts hT rfl rfl rfl hd0 hR) ⟨sn_blind hX, sn_pre hX hX0 hK hP hD hS hA⟩ rfl hn (by rw [← hml]; exact hl.1) rfl (lv_room (pc := pc) (ls := ls) (rest := As.reverse ++ rest) hw) hd ⟨Nat.le_trans hw1 (Nat.sub_le _ _), Nat.le_trans hw2 (Nat.sub_le _ _)⟩
  exact sn_call hrun hD hS hA (fun v S1 H1 locs1 hq hP hD hS => W.widen hw1 hw2 (kk q v S1 hq H1 locs1 ls hP hD hS hl hm2)) (fun cl q9 S1 H1 locs1 hq hP hD hS hc => vx_widen hw1 hw2 (kx q cl q9 S1 hq H1 locs1 ls rest hP hD hS hl hm2 hc))
theorem sn_callSN (hO : sn_Ok Lo w C own cc nL ret tb nm)  {y : MethodName} {by_ : ByteArray} {nY : Nat} {rY : Option FieldType} {rm : Room} {index n c2 s2 : Nat} {Qy : Option Value → sn_S → Prop} {Ey : sn_E} (As : List Value) (hC : sn_CsN Lo own index y by_ nY rY n) (hM : P → sn_Ct Lo w y (ws_ y by_ nY rY) rm (As) S Qy Ey) (hR : rm.frames + 1 ≤ R.frames ∧ 8 + (nY + 11) + rm.locals ≤ R.locals) (hn : As.length = n) (hst : st = As.reverse ++ rest) (hw : (rest.map fun v => v.category).sum ≤ 8) (hb2 : rm.cells ≤ mc ∧ rm.slots ≤ ms ∧ mc - rm.cells = c2 ∧ ms - rm.slots = s2) (hd : decode cc pc = .ok (.invokestatic index, 3))
    (kk : P → ∀ (v : Option Value) (S1 : sn_S), Qy v S1 → sn_G Lo w R Q E C c2 s2 (pc + 3) lv (v.toList ++ rest) S1) (kx : P → ∀ (cl : String) (q : Nat) (S1 : sn_S), Ey cl q S1 → sn_X Lo w R Q E C c2 s2 pc lv cl q S1) : P → sn_G Lo w R Q E C mc ms pc lv st S := by
  subst hst
  obtain ⟨p, e, s, m, args, below, meth, c, A0⟩ := C
  intro q H locs ls hP hD hS hl hm
  obtain ⟨hb2a, hb2b, rfl, rfl⟩ := hb2
  have hw1 : R.cells - mc + rm.cells ≤ R.cells - (mc - rm.cells) := by omega
  have hw2 : R.slots - ms + rm.slots ≤ R.slots - (ms - rm.slots) := by omega
  have hm2 : mc - rm.cells ≤ R.cells ∧ ms - rm.slots ≤ R.slots := ⟨by omega, by omega⟩
  obtain ⟨hx, hb, hml, hr, hlk, ho, hts, hK, hA, hX, hX0, htb, hnm⟩ := hO
  obtain ⟨host, hT, h1, h2, hN, hd0⟩ := hC
  have hrun := vx_runSN (cells := R.cells - mc) (slots := R.slots - ms) (locs := locs) (e := e) (args := args) (below := below) (meth := meth) (g := F0 m pc ls (As.reverse ++ rest)) (As := As) (rest := rest) ⟨hx, hb, hml, ho, hts⟩ (hM q H.size) ⟨va_cnB n hts hT rfl rfl rfl (hN _ _ _ _ hX0) (hts _ h1) hd0 hR, hts _ h2, trivial⟩ ⟨sn_blind hX, sn_pre hX hX0 hK hP hD hS hA⟩ rfl hn (by rw [← hml]; exact hl.1) rfl (lv_room (pc := pc) (ls := ls) (rest := As.reverse ++ rest) hw) hd ⟨Nat.le_trans hw1 (Nat.sub_le _ _), Nat.le_trans hw2 (Nat.sub_le _ _)⟩
  exact sn_call hrun hD hS hA (fun v S1 H1 locs1 hq hP hD hS => W.widen hw1 hw2 (kk q v S1 hq H1 locs1 ls hP hD hS hl hm2)) (fun cl q9 S1 H1 locs1 hq hP hD hS hc => vx_widen hw1 hw2 (kx q cl q9 S1 hq H1 locs1 ls rest hP hD hS hl hm2 hc))
theorem sn_callI (hO : sn_Ok Lo w C own cc nL ret tb nm) {a : Nat} {y : MethodName} {by_ : ByteArray} {nY : Nat} {rY : Option FieldType} {rm : Room} {index n c2 s2 : Nat} {Qy : Option Value → sn_S → Prop} {Ey : sn_E} (As : List Value) (hC : sn_Ci own index y by_ nY n) (hM : P → sn_Ct Lo w y (ws_ y by_ nY none) rm (.ref a :: As) S Qy Ey) (hR : rm.frames + 1 ≤ R.frames ∧ 8 + (nY + 11) + rm.locals ≤ R.locals) (hn : As.length = n) (hst : st = As.reverse ++ .ref a :: rest) (hw : (rest.map fun v => v.category).sum ≤ 8) (hb2 : rm.cells ≤ mc ∧ rm.slots ≤ ms ∧ mc - rm.cells = c2 ∧ ms - rm.slots = s2) (hd : decode cc pc = .ok (.invokespecial index, 3))
    (kk : P → ∀ (v : Option Value) (S1 : sn_S), Qy v S1 → sn_G Lo w R Q E C c2 s2 (pc + 3) lv (v.toList ++ rest) S1) (kx : P → ∀ (cl : String) (q : Nat) (S1 : sn_S), Ey cl q S1 → sn_X Lo w R Q E C c2 s2 pc lv cl q S1) : P → sn_G Lo w R Q E C mc ms pc lv st S := by
  subst hst
  obtain ⟨p, e, s, m, args, below, meth, c, A0⟩ := C
  intro q H locs ls hP hD hS hl hm
  obtain ⟨hb2a, hb2b, rfl, rfl⟩ := hb2
  have hw1 : R.cells - mc + rm.cells ≤ R.cells - (mc - rm.cells) := by omega
  have hw2 : R.slots - ms + rm.slots ≤ R.slots - (ms - rm.slots) := by omega
  have hm2 : mc - rm.cells ≤ R.cells ∧ ms - rm.slots ≤ R.slots := ⟨by omega, by omega⟩
  obtain ⟨hx, hb, hml, hr, hlk, ho, hts, hK, hA, hX, hX0, htb, hnm⟩ := hO
  obtain ⟨hT, h1, h2, h3, h4, hd0⟩ := hC
  have hrun := vx_runI (cells := R.cells - mc) (slots := R.slots - ms) (locs := locs) (e := e) (args := args) (below := below) (meth := meth) (g := F0 m pc ls (As.reverse ++ .ref a :: rest)) (As := As) (rest := rest) (b := a) ⟨hx, hb, hml, ho, hts⟩ (hM q H.size) (cwI n hts hT rfl rfl rfl (hts _ h1) (hts _ h2) (hts _ h3) h4 hd0 hR) ⟨sn_blind hX, sn_pre hX hX0 hK hP hD hS hA⟩ rfl hn (by rw [← hml]; exact hl.1) rfl (lv_room (pc := pc) (ls := ls) (rest := As.reverse ++ .ref a :: rest) hw) hd ⟨Nat.le_trans hw1 (Nat.sub_le _ _), Nat.le_trans hw2 (Nat.sub_le _ _)⟩
  exact sn_call hrun hD hS hA (fun v S1 H1 locs1 hq hP hD hS => W.widen hw1 hw2 (kk q v S1 hq H1 locs1 ls hP hD hS hl hm2)) (fun cl q9 S1 H1 locs1 hq hP hD hS hc => vx_widen hw1 hw2 (kx q cl q9 S1 hq H1 locs1 ls rest hP hD hS hl hm2 hc))
theorem sn_callIN (hO : sn_Ok Lo w C own cc nL ret tb nm) {a : Nat} {y : MethodName} {by_ : ByteArray} {nY : Nat} {rY : Option FieldType} {rm : Room} {index n c2 s2 : Nat} {Qy : Option Value → sn_S → Prop} {Ey : sn_E} (As : List Value) (hC : sn_CiN Lo own index y by_ nY n) (hM : P → sn_Ct Lo w y (ws_ y by_ nY none) rm (.ref a :: As) S Qy Ey) (hR : rm.frames + 1 ≤ R.frames ∧ 8 + (nY + 11) + rm.locals ≤ R.locals) (hn : As.length = n) (hst : st = As.reverse ++ .ref a :: rest) (hw : (rest.map fun v => v.category).sum ≤ 8) (hb2 : rm.cells ≤ mc ∧ rm.slots ≤ ms ∧ mc - rm.cells = c2 ∧ ms - rm.slots = s2) (hd : decode cc pc = .ok (.invokespecial index, 3))
    (kk : P → ∀ (v : Option Value) (S1 : sn_S), Qy v S1 → sn_G Lo w R Q E C c2 s2 (pc + 3) lv (v.toList ++ rest) S1) (kx : P → ∀ (cl : String) (q : Nat) (S1 : sn_S), Ey cl q S1 → sn_X Lo w R Q E C c2 s2 pc lv cl q S1) : P → sn_G Lo w R Q E C mc ms pc lv st S := by
  subst hst
  obtain ⟨p, e, s, m, args, below, meth, c, A0⟩ := C
  intro q H locs ls hP hD hS hl hm
  obtain ⟨hb2a, hb2b, rfl, rfl⟩ := hb2
  have hw1 : R.cells - mc + rm.cells ≤ R.cells - (mc - rm.cells) := by omega
  have hw2 : R.slots - ms + rm.slots ≤ R.slots - (ms - rm.slots) := by omega
  have hm2 : mc - rm.cells ≤ R.cells ∧ ms - rm.slots ≤ R.slots := ⟨by omega, by omega⟩
  obtain ⟨hx, hb, hml, hr, hlk, ho, hts, hK, hA, hX, hX0, htb, hnm⟩ := hO
  obtain ⟨host, hT, h1, h2, h3, hN, hd0⟩ := hC
  have hrun := vx_runIN (cells := R.cells - mc) (slots := R.slots - ms) (locs := locs) (e := e) (args := args) (below := below) (meth := meth) (g := F0 m pc ls (As.reverse ++ .ref a :: rest)) (As := As) (rest := rest) (b := a) ⟨hx, hb, hml, ho, hts⟩ (hM q H.size) ⟨va_cnB n hts hT rfl rfl rfl (hN _ _ _ _ hX0) (hts _ h1) hd0 hR, h3, hts _ h2⟩ ⟨sn_blind hX, sn_pre hX hX0 hK hP hD hS hA⟩ rfl hn (by rw [← hml]; exact hl.1) rfl (lv_room (pc := pc) (ls := ls) (rest := As.reverse ++ .ref a :: rest) hw) hd ⟨Nat.le_trans hw1 (Nat.sub_le _ _), Nat.le_trans hw2 (Nat.sub_le _ _)⟩
  exact sn_call hrun hD hS hA (fun v S1 H1 locs1 hq hP hD hS => W.widen hw1 hw2 (kk q v S1 hq H1 locs1 ls hP hD hS hl hm2)) (fun cl q9 S1 H1 locs1 hq hP hD hS hc => vx_widen hw1 hw2 (kx q cl q9 S1 hq H1 locs1 ls rest hP hD hS hl hm2 hc))
/-- what comes back, by its kind -/
theorem sn_bI {Pq : Int32 → sn_S → Prop} {c2 s2 : Nat} (k : ∀ (r : Int32) (S1 : sn_S), Pq r S1 → sn_G Lo w R Q E C c2 s2 pc lv (.int r :: rest) S1) : P → ∀ (v : Option Value) (S1 : sn_S), sn_qI Pq v S1 → sn_G Lo w R Q E C c2 s2 pc lv (v.toList ++ rest) S1 := by
  rintro - v S1 ⟨r, rfl, h⟩
  exact k r S1 h
theorem sn_bIp {Pq : Int32 → Prop} {c2 s2 : Nat} (k : ∀ r : Int32, Pq r → sn_G Lo w R Q E C c2 s2 pc lv (.int r :: rest) S) : P → ∀ (v : Option Value) (S1 : sn_S), sn_qI (fun r S1 => S1 = S ∧ Pq r) v S1 → sn_G Lo w R Q E C c2 s2 pc lv (v.toList ++ rest) S1 := by
  rintro - v S1 ⟨r, rfl, rfl, h⟩
  exact k r h
theorem sn_bL {Pq : Int64 → sn_S → Prop} {c2 s2 : Nat} (k : ∀ (r : Int64) (S1 : sn_S), Pq r S1 → sn_G Lo w R Q E C c2 s2 pc lv (.long r :: rest) S1) : P → ∀ (v : Option Value) (S1 : sn_S), sn_qL Pq v S1 → sn_G Lo w R Q E C c2 s2 pc lv (v.toList ++ rest) S1 := by
  rintro - v S1 ⟨r, rfl, h⟩
  exact k r S1 h
theorem sn_bLp {Pq : Int64 → Prop} {c2 s2 : Nat} (k : ∀ r : Int64, Pq r → sn_G Lo w R Q E C c2 s2 pc lv (.long r :: rest) S) : P → ∀ (v : Option Value) (S1 : sn_S), sn_qL (fun r S1 => S1 = S ∧ Pq r) v S1 → sn_G Lo w R Q E C c2 s2 pc lv (v.toList ++ rest) S1 := by
  rintro - v S1 ⟨r, rfl, rfl, h⟩
  exact k r h
theorem sn_bV {Pq : sn_S → Prop} {c2 s2 : Nat} (k : ∀ S1 : sn_S, Pq S1 → sn_G Lo w R Q E C c2 s2 pc lv rest S1) : P → ∀ (v : Option Value) (S1 : sn_S), sn_qV Pq v S1 → sn_G Lo w R Q E C c2 s2 pc lv (v.toList ++ rest) S1 := by
  rintro - v S1 ⟨rfl, h⟩
  exact k S1 h
theorem sn_bA {Pq : Nat → sn_S → Prop} {c2 s2 : Nat} (k : ∀ (r : Nat) (S1 : sn_S), Pq r S1 → sn_G Lo w R Q E C c2 s2 pc lv (.ref r :: rest) S1) : P → ∀ (v : Option Value) (S1 : sn_S), sn_qA Pq v S1 → sn_G Lo w R Q E C c2 s2 pc lv (v.toList ++ rest) S1 := by
  rintro - v S1 ⟨r, rfl, h⟩
  exact k r S1 h
theorem sn_bQ {Pq : Option Nat → sn_S → Prop} {c2 s2 : Nat} (k : ∀ (r : Option Nat) (S1 : sn_S), Pq r S1 → sn_G Lo w R Q E C c2 s2 pc lv (va_rf r :: rest) S1) : P → ∀ (v : Option Value) (S1 : sn_S), sn_qR Pq v S1 → sn_G Lo w R Q E C c2 s2 pc lv (v.toList ++ rest) S1 := by
  rintro - v S1 ⟨r, rfl, h⟩
  exact k r S1 h
theorem sn_x0 {c2 s2 : Nat} : P → ∀ (cl : String) (q : Nat) (S1 : sn_S), sn_noE cl q S1 → sn_X Lo w R Q E C c2 s2 pc lv cl q S1 := fun _ _ _ _ h => h.elim
theorem sn_xE (hO : sn_Ok Lo w C own cc nL ret [] nm) {c2 s2 : Nat} : P → ∀ (cl : String) (q : Nat) (S1 : sn_S), E cl q S1 → sn_X Lo w R Q E C c2 s2 pc lv cl q S1 := fun _ _ _ _ h => sn_xout hO h
end SNR
def sn_ln1 {A1 : Type} (F : (A1 → Prop) → A1 → Prop) : Nat → A1 → Prop
  | 0 => fun _ => False
  | n + 1 => F (sn_ln1 F n)
def sn_lp1 {A1 : Type} (F : (A1 → Prop) → A1 → Prop) (a1 : A1) : Prop := ∃ n, sn_ln1 F n a1
theorem sn_lp1_walk {A1 : Type} {F : (A1 → Prop) → A1 → Prop} {Gd : A1 → Prop} (h : ∀ rc : A1 → Prop, (∀ a1, rc a1 → Gd a1) → ∀ a1, F rc a1 → Gd a1) (a1 : A1) : sn_lp1 F a1 → Gd a1 := by
  intro ⟨n, hn⟩
  induction n generalizing a1 with
  | zero => exact absurd hn (fun h => h)
  | succ n ih => exact h (sn_ln1 F n) (fun a1 h => ih a1 h) a1 hn
theorem sn_lp1_inv {A1 : Type} {F : (A1 → Prop) → A1 → Prop} (I : A1 → Prop) (μ : A1 → Nat) (h : ∀ (rc : A1 → Prop) (a1 : A1), I a1 → (∀ b1, I b1 → μ b1 < μ a1 → rc b1) → F rc a1) (a1 : A1) (ha : I a1) : sn_lp1 F a1 := by
  have key : ∀ (n : Nat) (a1 : A1), I a1 → μ a1 < n → sn_ln1 F n a1 := by
    intro n
    induction n with
    | zero => intro a1 _ hm; exact absurd hm (Nat.not_lt_zero _)
    | succ n ih => intro a1 hi hm; exact h (sn_ln1 F n) a1 hi (fun b1 hb hlt => ih b1 hb (by omega))
  exact ⟨μ a1 + 1, key _ a1 ha (Nat.lt_succ_self _)⟩
def sn_ln2 {A1 A2 : Type} (F : (A1 → A2 → Prop) → A1 → A2 → Prop) : Nat → A1 → A2 → Prop
  | 0 => fun _ _ => False
  | n + 1 => F (sn_ln2 F n)
def sn_lp2 {A1 A2 : Type} (F : (A1 → A2 → Prop) → A1 → A2 → Prop) (a1 : A1) (a2 : A2) : Prop := ∃ n, sn_ln2 F n a1 a2
theorem sn_lp2_walk {A1 A2 : Type} {F : (A1 → A2 → Prop) → A1 → A2 → Prop} {Gd : A1 → A2 → Prop} (h : ∀ rc : A1 → A2 → Prop, (∀ a1 a2, rc a1 a2 → Gd a1 a2) → ∀ a1 a2, F rc a1 a2 → Gd a1 a2) (a1 : A1) (a2 : A2) : sn_lp2 F a1 a2 → Gd a1 a2 := by
  intro ⟨n, hn⟩
  induction n generalizing a1 a2 with
  | zero => exact absurd hn (fun h => h)
  | succ n ih => exact h (sn_ln2 F n) (fun a1 a2 h => ih a1 a2 h) a1 a2 hn
theorem sn_lp2_inv {A1 A2 : Type} {F : (A1 → A2 → Prop) → A1 → A2 → Prop} (I : A1 → A2 → Prop) (μ : A1 → A2 → Nat) (h : ∀ (rc : A1 → A2 → Prop) (a1 : A1) (a2 : A2), I a1 a2 → (∀ b1 b2, I b1 b2 → μ b1 b2 < μ a1 a2 → rc b1 b2) → F rc a1 a2) (a1 : A1) (a2 : A2) (ha : I a1 a2) : sn_lp2 F a1 a2 := by
  have key : ∀ (n : Nat) (a1 : A1) (a2 : A2), I a1 a2 → μ a1 a2 < n → sn_ln2 F n a1 a2 := by
    intro n
    induction n with
    | zero => intro a1 a2 _ hm; exact absurd hm (Nat.not_lt_zero _)
    | succ n ih => intro a1 a2 hi hm; exact h (sn_ln2 F n) a1 a2 hi (fun b1 b2 hb hlt => ih b1 b2 hb (by omega))
  exact ⟨μ a1 a2 + 1, key _ a1 a2 ha (Nat.lt_succ_self _)⟩
def sn_ln3 {A1 A2 A3 : Type} (F : (A1 → A2 → A3 → Prop) → A1 → A2 → A3 → Prop) : Nat → A1 → A2 → A3 → Prop
  | 0 => fun _ _ _ => False
  | n + 1 => F (sn_ln3 F n)
def sn_lp3 {A1 A2 A3 : Type} (F : (A1 → A2 → A3 → Prop) → A1 → A2 → A3 → Prop) (a1 : A1) (a2 : A2) (a3 : A3) : Prop := ∃ n, sn_ln3 F n a1 a2 a3
theorem sn_lp3_walk {A1 A2 A3 : Type} {F : (A1 → A2 → A3 → Prop) → A1 → A2 → A3 → Prop} {Gd : A1 → A2 → A3 → Prop} (h : ∀ rc : A1 → A2 → A3 → Prop, (∀ a1 a2 a3, rc a1 a2 a3 → Gd a1 a2 a3) → ∀ a1 a2 a3, F rc a1 a2 a3 → Gd a1 a2 a3) (a1 : A1) (a2 : A2) (a3 : A3) : sn_lp3 F a1 a2 a3 → Gd a1 a2 a3 := by
  intro ⟨n, hn⟩
  induction n generalizing a1 a2 a3 with
  | zero => exact absurd hn (fun h => h)
  | succ n ih => exact h (sn_ln3 F n) (fun a1 a2 a3 h => ih a1 a2 a3 h) a1 a2 a3 hn
theorem sn_lp3_inv {A1 A2 A3 : Type} {F : (A1 → A2 → A3 → Prop) → A1 → A2 → A3 → Prop} (I : A1 → A2 → A3 → Prop) (μ : A1 → A2 → A3 → Nat) (h : ∀ (rc : A1 → A2 → A3 → Prop) (a1 : A1) (a2 : A2) (a3 : A3), I a1 a2 a3 → (∀ b1 b2 b3, I b1 b2 b3 → μ b1 b2 b3 < μ a1 a2 a3 → rc b1 b2 b3) → F rc a1 a2 a3) (a1 : A1) (a2 : A2) (a3 : A3) (ha : I a1 a2 a3) : sn_lp3 F a1 a2 a3 := by
  have key : ∀ (n : Nat) (a1 : A1) (a2 : A2) (a3 : A3), I a1 a2 a3 → μ a1 a2 a3 < n → sn_ln3 F n a1 a2 a3 := by
    intro n
    induction n with
    | zero => intro a1 a2 a3 _ hm; exact absurd hm (Nat.not_lt_zero _)
    | succ n ih => intro a1 a2 a3 hi hm; exact h (sn_ln3 F n) a1 a2 a3 hi (fun b1 b2 b3 hb hlt => ih b1 b2 b3 hb (by omega))
  exact ⟨μ a1 a2 a3 + 1, key _ a1 a2 a3 ha (Nat.lt_succ_self _)⟩
def sn_ln4 {A1 A2 A3 A4 : Type} (F : (A1 → A2 → A3 → A4 → Prop) → A1 → A2 → A3 → A4 → Prop) : Nat → A1 → A2 → A3 → A4 → Prop
  | 0 => fun _ _ _ _ => False
  | n + 1 => F (sn_ln4 F n)
def sn_lp4 {A1 A2 A3 A4 : Type} (F : (A1 → A2 → A3 → A4 → Prop) → A1 → A2 → A3 → A4 → Prop) (a1 : A1) (a2 : A2) (a3 : A3) (a4 : A4) : Prop := ∃ n, sn_ln4 F n a1 a2 a3 a4
theorem sn_lp4_walk {A1 A2 A3 A4 : Type} {F : (A1 → A2 → A3 → A4 → Prop) → A1 → A2 → A3 → A4 → Prop} {Gd : A1 → A2 → A3 → A4 → Prop} (h : ∀ rc : A1 → A2 → A3 → A4 → Prop, (∀ a1 a2 a3 a4, rc a1 a2 a3 a4 → Gd a1 a2 a3 a4) → ∀ a1 a2 a3 a4, F rc a1 a2 a3 a4 → Gd a1 a2 a3 a4) (a1 : A1) (a2 : A2) (a3 : A3) (a4 : A4) : sn_lp4 F a1 a2 a3 a4 → Gd a1 a2 a3 a4 := by
  intro ⟨n, hn⟩
  induction n generalizing a1 a2 a3 a4 with
  | zero => exact absurd hn (fun h => h)
  | succ n ih => exact h (sn_ln4 F n) (fun a1 a2 a3 a4 h => ih a1 a2 a3 a4 h) a1 a2 a3 a4 hn
theorem sn_lp4_inv {A1 A2 A3 A4 : Type} {F : (A1 → A2 → A3 → A4 → Prop) → A1 → A2 → A3 → A4 → Prop} (I : A1 → A2 → A3 → A4 → Prop) (μ : A1 → A2 → A3 → A4 → Nat) (h : ∀ (rc : A1 → A2 → A3 → A4 → Prop) (a1 : A1) (a2 : A2) (a3 : A3) (a4 : A4), I a1 a2 a3 a4 → (∀ b1 b2 b3 b4, I b1 b2 b3 b4 → μ b1 b2 b3 b4 < μ a1 a2 a3 a4 → rc b1 b2 b3 b4) → F rc a1 a2 a3 a4) (a1 : A1) (a2 : A2) (a3 : A3) (a4 : A4) (ha : I a1 a2 a3 a4) : sn_lp4 F a1 a2 a3 a4 := by
  have key : ∀ (n : Nat) (a1 : A1) (a2 : A2) (a3 : A3) (a4 : A4), I a1 a2 a3 a4 → μ a1 a2 a3 a4 < n → sn_ln4 F n a1 a2 a3 a4 := by
    intro n
    induction n with
    | zero => intro a1 a2 a3 a4 _ hm; exact absurd hm (Nat.not_lt_zero _)
    | succ n ih => intro a1 a2 a3 a4 hi hm; exact h (sn_ln4 F n) a1 a2 a3 a4 hi (fun b1 b2 b3 b4 hb hlt => ih b1 b2 b3 b4 hb (by omega))
  exact ⟨μ a1 a2 a3 a4 + 1, key _ a1 a2 a3 a4 ha (Nat.lt_succ_self _)⟩
def sn_ln5 {A1 A2 A3 A4 A5 : Type} (F : (A1 → A2 → A3 → A4 → A5 → Prop) → A1 → A2 → A3 → A4 → A5 → Prop) : Nat → A1 → A2 → A3 → A4 → A5 → Prop
  | 0 => fun _ _ _ _ _ => False
  | n + 1 => F (sn_ln5 F n)
def sn_lp5 {A1 A2 A3 A4 A5 : Type} (F : (A1 → A2 → A3 → A4 → A5 → Prop) → A1 → A2 → A3 → A4 → A5 → Prop) (a1 : A1) (a2 : A2) (a3 : A3) (a4 : A4) (a5 : A5) : Prop := ∃ n, sn_ln5 F n a1 a2 a3 a4 a5
theorem sn_lp5_walk {A1 A2 A3 A4 A5 : Type} {F : (A1 → A2 → A3 → A4 → A5 → Prop) → A1 → A2 → A3 → A4 → A5 → Prop} {Gd : A1 → A2 → A3 → A4 → A5 → Prop} (h : ∀ rc : A1 → A2 → A3 → A4 → A5 → Prop, (∀ a1 a2 a3 a4 a5, rc a1 a2 a3 a4 a5 → Gd a1 a2 a3 a4 a5) → ∀ a1 a2 a3 a4 a5, F rc a1 a2 a3 a4 a5 → Gd a1 a2 a3 a4 a5) (a1 : A1) (a2 : A2) (a3 : A3) (a4 : A4) (a5 : A5) : sn_lp5 F a1 a2 a3 a4 a5 → Gd a1 a2 a3 a4 a5 := by
  intro ⟨n, hn⟩
  induction n generalizing a1 a2 a3 a4 a5 with
  | zero => exact absurd hn (fun h => h)
  | succ n ih => exact h (sn_ln5 F n) (fun a1 a2 a3 a4 a5 h => ih a1 a2 a3 a4 a5 h) a1 a2 a3 a4 a5 hn
theorem sn_lp5_inv {A1 A2 A3 A4 A5 : Type} {F : (A1 → A2 → A3 → A4 → A5 → Prop) → A1 → A2 → A3 → A4 → A5 → Prop} (I : A1 → A2 → A3 → A4 → A5 → Prop) (μ : A1 → A2 → A3 → A4 → A5 → Nat) (h : ∀ (rc : A1 → A2 → A3 → A4 → A5 → Prop) (a1 : A1) (a2 : A2) (a3 : A3) (a4 : A4) (a5 : A5), I a1 a2 a3 a4 a5 → (∀ b1 b2 b3 b4 b5, I b1 b2 b3 b4 b5 → μ b1 b2 b3 b4 b5 < μ a1 a2 a3 a4 a5 → rc b1 b2 b3 b4 b5) → F rc a1 a2 a3 a4 a5) (a1 : A1) (a2 : A2) (a3 : A3) (a4 : A4) (a5 : A5) (ha : I a1 a2 a3 a4 a5) : sn_lp5 F a1 a2 a3 a4 a5 := by
  have key : ∀ (n : Nat) (a1 : A1) (a2 : A2) (a3 : A3) (a4 : A4) (a5 : A5), I a1 a2 a3 a4 a5 → μ a1 a2 a3 a4 a5 < n → sn_ln5 F n a1 a2 a3 a4 a5 := by
    intro n
    induction n with
    | zero => intro a1 a2 a3 a4 a5 _ hm; exact absurd hm (Nat.not_lt_zero _)
    | succ n ih => intro a1 a2 a3 a4 a5 hi hm; exact h (sn_ln5 F n) a1 a2 a3 a4 a5 hi (fun b1 b2 b3 b4 b5 hb hlt => ih b1 b2 b3 b4 b5 hb (by omega))
  exact ⟨μ a1 a2 a3 a4 a5 + 1, key _ a1 a2 a3 a4 a5 ha (Nat.lt_succ_self _)⟩
def sn_ln6 {A1 A2 A3 A4 A5 A6 : Type} (F : (A1 → A2 → A3 → A4 → A5 → A6 → Prop) → A1 → A2 → A3 → A4 → A5 → A6 → Prop) : Nat → A1 → A2 → A3 → A4 → A5 → A6 → Prop
  | 0 => fun _ _ _ _ _ _ => False
  | n + 1 => F (sn_ln6 F n)
def sn_lp6 {A1 A2 A3 A4 A5 A6 : Type} (F : (A1 → A2 → A3 → A4 → A5 → A6 → Prop) → A1 → A2 → A3 → A4 → A5 → A6 → Prop) (a1 : A1) (a2 : A2) (a3 : A3) (a4 : A4) (a5 : A5) (a6 : A6) : Prop := ∃ n, sn_ln6 F n a1 a2 a3 a4 a5 a6
theorem sn_lp6_walk {A1 A2 A3 A4 A5 A6 : Type} {F : (A1 → A2 → A3 → A4 → A5 → A6 → Prop) → A1 → A2 → A3 → A4 → A5 → A6 → Prop} {Gd : A1 → A2 → A3 → A4 → A5 → A6 → Prop} (h : ∀ rc : A1 → A2 → A3 → A4 → A5 → A6 → Prop, (∀ a1 a2 a3 a4 a5 a6, rc a1 a2 a3 a4 a5 a6 → Gd a1 a2 a3 a4 a5 a6) → ∀ a1 a2 a3 a4 a5 a6, F rc a1 a2 a3 a4 a5 a6 → Gd a1 a2 a3 a4 a5 a6) (a1 : A1) (a2 : A2) (a3 : A3) (a4 : A4) (a5 : A5) (a6 : A6) : sn_lp6 F a1 a2 a3 a4 a5 a6 → Gd a1 a2 a3 a4 a5 a6 := by
  intro ⟨n, hn⟩
  induction n generalizing a1 a2 a3 a4 a5 a6 with
  | zero => exact absurd hn (fun h => h)
  | succ n ih => exact h (sn_ln6 F n) (fun a1 a2 a3 a4 a5 a6 h => ih a1 a2 a3 a4 a5 a6 h) a1 a2 a3 a4 a5 a6 hn
theorem sn_lp6_inv {A1 A2 A3 A4 A5 A6 : Type} {F : (A1 → A2 → A3 → A4 → A5 → A6 → Prop) → A1 → A2 → A3 → A4 → A5 → A6 → Prop} (I : A1 → A2 → A3 → A4 → A5 → A6 → Prop) (μ : A1 → A2 → A3 → A4 → A5 → A6 → Nat) (h : ∀ (rc : A1 → A2 → A3 → A4 → A5 → A6 → Prop) (a1 : A1) (a2 : A2) (a3 : A3) (a4 : A4) (a5 : A5) (a6 : A6), I a1 a2 a3 a4 a5 a6 → (∀ b1 b2 b3 b4 b5 b6, I b1 b2 b3 b4 b5 b6 → μ b1 b2 b3 b4 b5 b6 < μ a1 a2 a3 a4 a5 a6 → rc b1 b2 b3 b4 b5 b6) → F rc a1 a2 a3 a4 a5 a6) (a1 : A1) (a2 : A2) (a3 : A3) (a4 : A4) (a5 : A5) (a6 : A6) (ha : I a1 a2 a3 a4 a5 a6) : sn_lp6 F a1 a2 a3 a4 a5 a6 := by
  have key : ∀ (n : Nat) (a1 : A1) (a2 : A2) (a3 : A3) (a4 : A4) (a5 : A5) (a6 : A6), I a1 a2 a3 a4 a5 a6 → μ a1 a2 a3 a4 a5 a6 < n → sn_ln6 F n a1 a2 a3 a4 a5 a6 := by
    intro n
    induction n with
    | zero => intro a1 a2 a3 a4 a5 a6 _ hm; exact absurd hm (Nat.not_lt_zero _)
    | succ n ih => intro a1 a2 a3 a4 a5 a6 hi hm; exact h (sn_ln6 F n) a1 a2 a3 a4 a5 a6 hi (fun b1 b2 b3 b4 b5 b6 hb hlt => ih b1 b2 b3 b4 b5 b6 hb (by omega))
  exact ⟨μ a1 a2 a3 a4 a5 a6 + 1, key _ a1 a2 a3 a4 a5 a6 ha (Nat.lt_succ_self _)⟩
def sn_ln7 {A1 A2 A3 A4 A5 A6 A7 : Type} (F : (A1 → A2 → A3 → A4 → A5 → A6 → A7 → Prop) → A1 → A2 → A3 → A4 → A5 → A6 → A7 → Prop) : Nat → A1 → A2 → A3 → A4 → A5 → A6 → A7 → Prop
  | 0 => fun _ _ _ _ _ _ _ => False
  | n + 1 => F (sn_ln7 F n)
def sn_lp7 {A1 A2 A3 A4 A5 A6 A7 : Type} (F : (A1 → A2 → A3 → A4 → A5 → A6 → A7 → Prop) → A1 → A2 → A3 → A4 → A5 → A6 → A7 → Prop) (a1 : A1) (a2 : A2) (a3 : A3) (a4 : A4) (a5 : A5) (a6 : A6) (a7 : A7) : Prop := ∃ n, sn_ln7 F n a1 a2 a3 a4 a5 a6 a7
theorem sn_lp7_walk {A1 A2 A3 A4 A5 A6 A7 : Type} {F : (A1 → A2 → A3 → A4 → A5 → A6 → A7 → Prop) → A1 → A2 → A3 → A4 → A5 → A6 → A7 → Prop} {Gd : A1 → A2 → A3 → A4 → A5 → A6 → A7 → Prop} (h : ∀ rc : A1 → A2 → A3 → A4 → A5 → A6 → A7 → Prop, (∀ a1 a2 a3 a4 a5 a6 a7, rc a1 a2 a3 a4 a5 a6 a7 → Gd a1 a2 a3 a4 a5 a6 a7) → ∀ a1 a2 a3 a4 a5 a6 a7, F rc a1 a2 a3 a4 a5 a6 a7 → Gd a1 a2 a3 a4 a5 a6 a7) (a1 : A1) (a2 : A2) (a3 : A3) (a4 : A4) (a5 : A5) (a6 : A6) (a7 : A7) : sn_lp7 F a1 a2 a3 a4 a5 a6 a7 → Gd a1 a2 a3 a4 a5 a6 a7 := by
  intro ⟨n, hn⟩
  induction n generalizing a1 a2 a3 a4 a5 a6 a7 with
  | zero => exact absurd hn (fun h => h)
  | succ n ih => exact h (sn_ln7 F n) (fun a1 a2 a3 a4 a5 a6 a7 h => ih a1 a2 a3 a4 a5 a6 a7 h) a1 a2 a3 a4 a5 a6 a7 hn
theorem sn_lp7_inv {A1 A2 A3 A4 A5 A6 A7 : Type} {F : (A1 → A2 → A3 → A4 → A5 → A6 → A7 → Prop) → A1 → A2 → A3 → A4 → A5 → A6 → A7 → Prop} (I : A1 → A2 → A3 → A4 → A5 → A6 → A7 → Prop) (μ : A1 → A2 → A3 → A4 → A5 → A6 → A7 → Nat) (h : ∀ (rc : A1 → A2 → A3 → A4 → A5 → A6 → A7 → Prop) (a1 : A1) (a2 : A2) (a3 : A3) (a4 : A4) (a5 : A5) (a6 : A6) (a7 : A7), I a1 a2 a3 a4 a5 a6 a7 → (∀ b1 b2 b3 b4 b5 b6 b7, I b1 b2 b3 b4 b5 b6 b7 → μ b1 b2 b3 b4 b5 b6 b7 < μ a1 a2 a3 a4 a5 a6 a7 → rc b1 b2 b3 b4 b5 b6 b7) → F rc a1 a2 a3 a4 a5 a6 a7) (a1 : A1) (a2 : A2) (a3 : A3) (a4 : A4) (a5 : A5) (a6 : A6) (a7 : A7) (ha : I a1 a2 a3 a4 a5 a6 a7) : sn_lp7 F a1 a2 a3 a4 a5 a6 a7 := by
  have key : ∀ (n : Nat) (a1 : A1) (a2 : A2) (a3 : A3) (a4 : A4) (a5 : A5) (a6 : A6) (a7 : A7), I a1 a2 a3 a4 a5 a6 a7 → μ a1 a2 a3 a4 a5 a6 a7 < n → sn_ln7 F n a1 a2 a3 a4 a5 a6 a7 := by
    intro n
    induction n with
    | zero => intro a1 a2 a3 a4 a5 a6 a7 _ hm; exact absurd hm (Nat.not_lt_zero _)
    | succ n ih => intro a1 a2 a3 a4 a5 a6 a7 hi hm; exact h (sn_ln7 F n) a1 a2 a3 a4 a5 a6 a7 hi (fun b1 b2 b3 b4 b5 b6 b7 hb hlt => ih b1 b2 b3 b4 b5 b6 b7 hb (by omega))
  exact ⟨μ a1 a2 a3 a4 a5 a6 a7 + 1, key _ a1 a2 a3 a4 a5 a6 a7 ha (Nat.lt_succ_self _)⟩
def sn_ln8 {A1 A2 A3 A4 A5 A6 A7 A8 : Type} (F : (A1 → A2 → A3 → A4 → A5 → A6 → A7 → A8 → Prop) → A1 → A2 → A3 → A4 → A5 → A6 → A7 → A8 → Prop) : Nat → A1 → A2 → A3 → A4 → A5 → A6 → A7 → A8 → Prop
  | 0 => fun _ _ _ _ _ _ _ _ => False
  | n + 1 => F (sn_ln8 F n)
def sn_lp8 {A1 A2 A3 A4 A5 A6 A7 A8 : Type} (F : (A1 → A2 → A3 → A4 → A5 → A6 → A7 → A8 → Prop) → A1 → A2 → A3 → A4 → A5 → A6 → A7 → A8 → Prop) (a1 : A1) (a2 : A2) (a3 : A3) (a4 : A4) (a5 : A5) (a6 : A6) (a7 : A7) (a8 : A8) : Prop := ∃ n, sn_ln8 F n a1 a2 a3 a4 a5 a6 a7 a8
theorem sn_lp8_walk {A1 A2 A3 A4 A5 A6 A7 A8 : Type} {F : (A1 → A2 → A3 → A4 → A5 → A6 → A7 → A8 → Prop) → A1 → A2 → A3 → A4 → A5 → A6 → A7 → A8 → Prop} {Gd : A1 → A2 → A3 → A4 → A5 → A6 → A7 → A8 → Prop} (h : ∀ rc : A1 → A2 → A3 → A4 → A5 → A6 → A7 → A8 → Prop, (∀ a1 a2 a3 a4 a5 a6 a7 a8, rc a1 a2 a3 a4 a5 a6 a7 a8 → Gd a1 a2 a3 a4 a5 a6 a7 a8) → ∀ a1 a2 a3 a4 a5 a6 a7 a8, F rc a1 a2 a3 a4 a5 a6 a7 a8 → Gd a1 a2 a3 a4 a5 a6 a7 a8) (a1 : A1) (a2 : A2) (a3 : A3) (a4 : A4) (a5 : A5) (a6 : A6) (a7 : A7) (a8 : A8) : sn_lp8 F a1 a2 a3 a4 a5 a6 a7 a8 → Gd a1 a2 a3 a4 a5 a6 a7 a8 := by
  intro ⟨n, hn⟩
  induction n generalizing a1 a2 a3 a4 a5 a6 a7 a8 with
  | zero => exact absurd hn (fun h => h)
  | succ n ih => exact h (sn_ln8 F n) (fun a1 a2 a3 a4 a5 a6 a7 a8 h => ih a1 a2 a3 a4 a5 a6 a7 a8 h) a1 a2 a3 a4 a5 a6 a7 a8 hn
theorem sn_lp8_inv {A1 A2 A3 A4 A5 A6 A7 A8 : Type} {F : (A1 → A2 → A3 → A4 → A5 → A6 → A7 → A8 → Prop) → A1 → A2 → A3 → A4 → A5 → A6 → A7 → A8 → Prop} (I : A1 → A2 → A3 → A4 → A5 → A6 → A7 → A8 → Prop) (μ : A1 → A2 → A3 → A4 → A5 → A6 → A7 → A8 → Nat) (h : ∀ (rc : A1 → A2 → A3 → A4 → A5 → A6 → A7 → A8 → Prop) (a1 : A1) (a2 : A2) (a3 : A3) (a4 : A4) (a5 : A5) (a6 : A6) (a7 : A7) (a8 : A8), I a1 a2 a3 a4 a5 a6 a7 a8 → (∀ b1 b2 b3 b4 b5 b6 b7 b8, I b1 b2 b3 b4 b5 b6 b7 b8 → μ b1 b2 b3 b4 b5 b6 b7 b8 < μ a1 a2 a3 a4 a5 a6 a7 a8 → rc b1 b2 b3 b4 b5 b6 b7 b8) → F rc a1 a2 a3 a4 a5 a6 a7 a8) (a1 : A1) (a2 : A2) (a3 : A3) (a4 : A4) (a5 : A5) (a6 : A6) (a7 : A7) (a8 : A8) (ha : I a1 a2 a3 a4 a5 a6 a7 a8) : sn_lp8 F a1 a2 a3 a4 a5 a6 a7 a8 := by
  have key : ∀ (n : Nat) (a1 : A1) (a2 : A2) (a3 : A3) (a4 : A4) (a5 : A5) (a6 : A6) (a7 : A7) (a8 : A8), I a1 a2 a3 a4 a5 a6 a7 a8 → μ a1 a2 a3 a4 a5 a6 a7 a8 < n → sn_ln8 F n a1 a2 a3 a4 a5 a6 a7 a8 := by
    intro n
    induction n with
    | zero => intro a1 a2 a3 a4 a5 a6 a7 a8 _ hm; exact absurd hm (Nat.not_lt_zero _)
    | succ n ih => intro a1 a2 a3 a4 a5 a6 a7 a8 hi hm; exact h (sn_ln8 F n) a1 a2 a3 a4 a5 a6 a7 a8 hi (fun b1 b2 b3 b4 b5 b6 b7 b8 hb hlt => ih b1 b2 b3 b4 b5 b6 b7 b8 hb (by omega))
  exact ⟨μ a1 a2 a3 a4 a5 a6 a7 a8 + 1, key _ a1 a2 a3 a4 a5 a6 a7 a8 ha (Nat.lt_succ_self _)⟩
def sn_ln9 {A1 A2 A3 A4 A5 A6 A7 A8 A9 : Type} (F : (A1 → A2 → A3 → A4 → A5 → A6 → A7 → A8 → A9 → Prop) → A1 → A2 → A3 → A4 → A5 → A6 → A7 → A8 → A9 → Prop) : Nat → A1 → A2 → A3 → A4 → A5 → A6 → A7 → A8 → A9 → Prop
  | 0 => fun _ _ _ _ _ _ _ _ _ => False
  | n + 1 => F (sn_ln9 F n)
def sn_lp9 {A1 A2 A3 A4 A5 A6 A7 A8 A9 : Type} (F : (A1 → A2 → A3 → A4 → A5 → A6 → A7 → A8 → A9 → Prop) → A1 → A2 → A3 → A4 → A5 → A6 → A7 → A8 → A9 → Prop) (a1 : A1) (a2 : A2) (a3 : A3) (a4 : A4) (a5 : A5) (a6 : A6) (a7 : A7) (a8 : A8) (a9 : A9) : Prop := ∃ n, sn_ln9 F n a1 a2 a3 a4 a5 a6 a7 a8 a9
theorem sn_lp9_walk {A1 A2 A3 A4 A5 A6 A7 A8 A9 : Type} {F : (A1 → A2 → A3 → A4 → A5 → A6 → A7 → A8 → A9 → Prop) → A1 → A2 → A3 → A4 → A5 → A6 → A7 → A8 → A9 → Prop} {Gd : A1 → A2 → A3 → A4 → A5 → A6 → A7 → A8 → A9 → Prop} (h : ∀ rc : A1 → A2 → A3 → A4 → A5 → A6 → A7 → A8 → A9 → Prop, (∀ a1 a2 a3 a4 a5 a6 a7 a8 a9, rc a1 a2 a3 a4 a5 a6 a7 a8 a9 → Gd a1 a2 a3 a4 a5 a6 a7 a8 a9) → ∀ a1 a2 a3 a4 a5 a6 a7 a8 a9, F rc a1 a2 a3 a4 a5 a6 a7 a8 a9 → Gd a1 a2 a3 a4 a5 a6 a7 a8 a9) (a1 : A1) (a2 : A2) (a3 : A3) (a4 : A4) (a5 : A5) (a6 : A6) (a7 : A7) (a8 : A8) (a9 : A9) : sn_lp9 F a1 a2 a3 a4 a5 a6 a7 a8 a9 → Gd a1 a2 a3 a4 a5 a6 a7 a8 a9 := by
  intro ⟨n, hn⟩
  induction n generalizing a1 a2 a3 a4 a5 a6 a7 a8 a9 with
  | zero => exact absurd hn (fun h => h)
  | succ n ih => exact h (sn_ln9 F n) (fun a1 a2 a3 a4 a5 a6 a7 a8 a9 h => ih a1 a2 a3 a4 a5 a6 a7 a8 a9 h) a1 a2 a3 a4 a5 a6 a7 a8 a9 hn
theorem sn_lp9_inv {A1 A2 A3 A4 A5 A6 A7 A8 A9 : Type} {F : (A1 → A2 → A3 → A4 → A5 → A6 → A7 → A8 → A9 → Prop) → A1 → A2 → A3 → A4 → A5 → A6 → A7 → A8 → A9 → Prop} (I : A1 → A2 → A3 → A4 → A5 → A6 → A7 → A8 → A9 → Prop) (μ : A1 → A2 → A3 → A4 → A5 → A6 → A7 → A8 → A9 → Nat) (h : ∀ (rc : A1 → A2 → A3 → A4 → A5 → A6 → A7 → A8 → A9 → Prop) (a1 : A1) (a2 : A2) (a3 : A3) (a4 : A4) (a5 : A5) (a6 : A6) (a7 : A7) (a8 : A8) (a9 : A9), I a1 a2 a3 a4 a5 a6 a7 a8 a9 → (∀ b1 b2 b3 b4 b5 b6 b7 b8 b9, I b1 b2 b3 b4 b5 b6 b7 b8 b9 → μ b1 b2 b3 b4 b5 b6 b7 b8 b9 < μ a1 a2 a3 a4 a5 a6 a7 a8 a9 → rc b1 b2 b3 b4 b5 b6 b7 b8 b9) → F rc a1 a2 a3 a4 a5 a6 a7 a8 a9) (a1 : A1) (a2 : A2) (a3 : A3) (a4 : A4) (a5 : A5) (a6 : A6) (a7 : A7) (a8 : A8) (a9 : A9) (ha : I a1 a2 a3 a4 a5 a6 a7 a8 a9) : sn_lp9 F a1 a2 a3 a4 a5 a6 a7 a8 a9 := by
  have key : ∀ (n : Nat) (a1 : A1) (a2 : A2) (a3 : A3) (a4 : A4) (a5 : A5) (a6 : A6) (a7 : A7) (a8 : A8) (a9 : A9), I a1 a2 a3 a4 a5 a6 a7 a8 a9 → μ a1 a2 a3 a4 a5 a6 a7 a8 a9 < n → sn_ln9 F n a1 a2 a3 a4 a5 a6 a7 a8 a9 := by
    intro n
    induction n with
    | zero => intro a1 a2 a3 a4 a5 a6 a7 a8 a9 _ hm; exact absurd hm (Nat.not_lt_zero _)
    | succ n ih => intro a1 a2 a3 a4 a5 a6 a7 a8 a9 hi hm; exact h (sn_ln9 F n) a1 a2 a3 a4 a5 a6 a7 a8 a9 hi (fun b1 b2 b3 b4 b5 b6 b7 b8 b9 hb hlt => ih b1 b2 b3 b4 b5 b6 b7 b8 b9 hb (by omega))
  exact ⟨μ a1 a2 a3 a4 a5 a6 a7 a8 a9 + 1, key _ a1 a2 a3 a4 a5 a6 a7 a8 a9 ha (Nat.lt_succ_self _)⟩
def sn_ln10 {A1 A2 A3 A4 A5 A6 A7 A8 A9 A10 : Type} (F : (A1 → A2 → A3 → A4 → A5 → A6 → A7 → A8 → A9 → A10 → Prop) → A1 → A2 → A3 → A4 → A5 → A6 → A7 → A8 → A9 → A10 → Prop) : Nat → A1 → A2 → A3 → A4 → A5 → A6 → A7 → A8 → A9 → A10 → Prop
  | 0 => fun _ _ _ _ _ _ _ _ _ _ => False
  | n + 1 => F (sn_ln10 F n)
def sn_lp10 {A1 A2 A3 A4 A5 A6 A7 A8 A9 A10 : Type} (F : (A1 → A2 → A3 → A4 → A5 → A6 → A7 → A8 → A9 → A10 → Prop) → A1 → A2 → A3 → A4 → A5 → A6 → A7 → A8 → A9 → A10 → Prop) (a1 : A1) (a2 : A2) (a3 : A3) (a4 : A4) (a5 : A5) (a6 : A6) (a7 : A7) (a8 : A8) (a9 : A9) (a10 : A10) : Prop := ∃ n, sn_ln10 F n a1 a2 a3 a4 a5 a6 a7 a8 a9 a10
theorem sn_lp10_walk {A1 A2 A3 A4 A5 A6 A7 A8 A9 A10 : Type} {F : (A1 → A2 → A3 → A4 → A5 → A6 → A7 → A8 → A9 → A10 → Prop) → A1 → A2 → A3 → A4 → A5 → A6 → A7 → A8 → A9 → A10 → Prop} {Gd : A1 → A2 → A3 → A4 → A5 → A6 → A7 → A8 → A9 → A10 → Prop} (h : ∀ rc : A1 → A2 → A3 → A4 → A5 → A6 → A7 → A8 → A9 → A10 → Prop, (∀ a1 a2 a3 a4 a5 a6 a7 a8 a9 a10, rc a1 a2 a3 a4 a5 a6 a7 a8 a9 a10 → Gd a1 a2 a3 a4 a5 a6 a7 a8 a9 a10) → ∀ a1 a2 a3 a4 a5 a6 a7 a8 a9 a10, F rc a1 a2 a3 a4 a5 a6 a7 a8 a9 a10 → Gd a1 a2 a3 a4 a5 a6 a7 a8 a9 a10) (a1 : A1) (a2 : A2) (a3 : A3) (a4 : A4) (a5 : A5) (a6 : A6) (a7 : A7) (a8 : A8) (a9 : A9) (a10 : A10) : sn_lp10 F a1 a2 a3 a4 a5 a6 a7 a8 a9 a10 → Gd a1 a2 a3 a4 a5 a6 a7 a8 a9 a10 := by
  intro ⟨n, hn⟩
  induction n generalizing a1 a2 a3 a4 a5 a6 a7 a8 a9 a10 with
  | zero => exact absurd hn (fun h => h)
  | succ n ih => exact h (sn_ln10 F n) (fun a1 a2 a3 a4 a5 a6 a7 a8 a9 a10 h => ih a1 a2 a3 a4 a5 a6 a7 a8 a9 a10 h) a1 a2 a3 a4 a5 a6 a7 a8 a9 a10 hn
theorem sn_lp10_inv {A1 A2 A3 A4 A5 A6 A7 A8 A9 A10 : Type} {F : (A1 → A2 → A3 → A4 → A5 → A6 → A7 → A8 → A9 → A10 → Prop) → A1 → A2 → A3 → A4 → A5 → A6 → A7 → A8 → A9 → A10 → Prop} (I : A1 → A2 → A3 → A4 → A5 → A6 → A7 → A8 → A9 → A10 → Prop) (μ : A1 → A2 → A3 → A4 → A5 → A6 → A7 → A8 → A9 → A10 → Nat) (h : ∀ (rc : A1 → A2 → A3 → A4 → A5 → A6 → A7 → A8 → A9 → A10 → Prop) (a1 : A1) (a2 : A2) (a3 : A3) (a4 : A4) (a5 : A5) (a6 : A6) (a7 : A7) (a8 : A8) (a9 : A9) (a10 : A10), I a1 a2 a3 a4 a5 a6 a7 a8 a9 a10 → (∀ b1 b2 b3 b4 b5 b6 b7 b8 b9 b10, I b1 b2 b3 b4 b5 b6 b7 b8 b9 b10 → μ b1 b2 b3 b4 b5 b6 b7 b8 b9 b10 < μ a1 a2 a3 a4 a5 a6 a7 a8 a9 a10 → rc b1 b2 b3 b4 b5 b6 b7 b8 b9 b10) → F rc a1 a2 a3 a4 a5 a6 a7 a8 a9 a10) (a1 : A1) (a2 : A2) (a3 : A3) (a4 : A4) (a5 : A5) (a6 : A6) (a7 : A7) (a8 : A8) (a9 : A9) (a10 : A10) (ha : I a1 a2 a3 a4 a5 a6 a7 a8 a9 a10) : sn_lp10 F a1 a2 a3 a4 a5 a6 a7 a8 a9 a10 := by
  have key : ∀ (n : Nat) (a1 : A1) (a2 : A2) (a3 : A3) (a4 : A4) (a5 : A5) (a6 : A6) (a7 : A7) (a8 : A8) (a9 : A9) (a10 : A10), I a1 a2 a3 a4 a5 a6 a7 a8 a9 a10 → μ a1 a2 a3 a4 a5 a6 a7 a8 a9 a10 < n → sn_ln10 F n a1 a2 a3 a4 a5 a6 a7 a8 a9 a10 := by
    intro n
    induction n with
    | zero => intro a1 a2 a3 a4 a5 a6 a7 a8 a9 a10 _ hm; exact absurd hm (Nat.not_lt_zero _)
    | succ n ih => intro a1 a2 a3 a4 a5 a6 a7 a8 a9 a10 hi hm; exact h (sn_ln10 F n) a1 a2 a3 a4 a5 a6 a7 a8 a9 a10 hi (fun b1 b2 b3 b4 b5 b6 b7 b8 b9 b10 hb hlt => ih b1 b2 b3 b4 b5 b6 b7 b8 b9 b10 hb (by omega))
  exact ⟨μ a1 a2 a3 a4 a5 a6 a7 a8 a9 a10 + 1, key _ a1 a2 a3 a4 a5 a6 a7 a8 a9 a10 ha (Nat.lt_succ_self _)⟩
