/-! THE ROW LAYER, third part: calls with several bodies, handlers, copies, casts of several classes, keys of walks. -/
set_option maxRecDepth 100000
section SNY
variable {Lo : sn_Lo} {w : sn_W} {R : Room} {Q : Option Value → sn_S → Prop} {E : sn_E} {C : sn_C} {own nm : String} {cc : ByteArray} {nL : Nat} {ret : Option FieldType} {tb : List ExceptionTableEntry} {mc ms pc : Nat} {lv lv' : List (Nat × Value)} {rest st : List Value} {S : sn_S} {P A B : Prop}
theorem sn_bAp {Pq : Nat → Prop} {c2 s2 : Nat} (k : ∀ r : Nat, Pq r → sn_G Lo w R Q E C c2 s2 pc lv (.ref r :: rest) S) : P → ∀ (v : Option Value) (S1 : sn_S), sn_qA (fun r S1 => S1 = S ∧ Pq r) v S1 → sn_G Lo w R Q E C c2 s2 pc lv (v.toList ++ rest) S1 := by
  rintro - v S1 ⟨r, rfl, rfl, h⟩
  exact k r h
theorem sn_bVp {Pq : Prop} {c2 s2 : Nat} (k : Pq → sn_G Lo w R Q E C c2 s2 pc lv rest S) : P → ∀ (v : Option Value) (S1 : sn_S), sn_qV (fun S1 => S1 = S ∧ Pq) v S1 → sn_G Lo w R Q E C c2 s2 pc lv (v.toList ++ rest) S1 := by
  rintro - v S1 ⟨rfl, rfl, h⟩
  exact k h
/-- a throw that comes out of a call and is caught by a row of the table -/
theorem sn_xh (pre suf : List ExceptionTableEntry) (x : ExceptionTableEntry) (hO : sn_Ok Lo w C own cc nL ret tb nm) (htb : tb = pre ++ x :: suf) (hpre : ∀ z ∈ pre, covers z pc = false) (hx : covers x pc = true) (h0 : x.catchType ≠ 0) {cl0 name : String} (hlink : Cond.classLink own x.catchType name ∈ lw_all) (hcast : ∀ w A U H, Lo.2.2.2.2 w A U H → va_Nw (.castable cl0 name) U) {c2 s2 : Nat} {K : Nat → sn_S → Prop} (k : ∀ (q : Nat) (S1 : sn_S), K q S1 → sn_G Lo w R Q E C c2 s2 x.handlerPc lv [.ref q] S1) : P → ∀ (cl : String) (q : Nat) (S1 : sn_S), (cl = cl0 ∧ K q S1) → sn_X Lo w R Q E C c2 s2 pc lv cl q S1 := by
  obtain ⟨p, e, s, m, args, below, meth, c, A0⟩ := C
  subst htb
  rintro - cl q S1 ⟨rfl, h⟩ H locs ls st hP hD hS hl hm ⟨ce, h1, h2, h3⟩
  exact vx_catch hO.2.2.2.2.2.1 pre x suf hO.2.2.2.2.2.2.2.2.2.2.2.1 (fun z hz => Or.inl (hpre z hz)) hx h0 (hO.2.2.2.2.2.2.1 _ hlink) (va_Nw.use rfl (hcast _ _ _ _ hO.2.2.2.2.2.2.2.2.2.2.1)) h1 h2 h3 (k q S1 h H locs ls hP hD hS hl hm)
/-- a contract whose throws say less -/
theorem sn_Ct_E {y : MethodName} {ws : List Cond} {rm : Room} {vs : List Value} {Qy : Option Value → sn_S → Prop} {E' : sn_E} (h : ∀ cl q S1, sn_noE cl q S1 → E' cl q S1) (hc : sn_Ct Lo w y ws rm vs S Qy E') : sn_Ct Lo w y ws rm vs S Qy E' := hc
/-- a call whose body is one of three, by the receiver's class -/
theorem sn_callA3 (hO : sn_Ok Lo w C own cc nL ret tb nm) {a i1 i2 i3 : Nat} {x y1 y2 y3 : MethodName} {b1 b2 b3 : ByteArray} {n1 n2 n3 : Nat} {r1 r2 r3 : Option FieldType} {rm : Room} {index n c2 s2 : Nat} {Qy : Option Value → sn_S → Prop} {Ey : sn_E} (As : List Value) (hC1 : sn_CvA Lo own index x y1 b1 n1 r1 n i1) (hC2 : sn_CvA Lo own index x y2 b2 n2 r2 n i2) (hC3 : sn_CvA Lo own index x y3 b3 n3 r3 n i3)
    (hM : P → (sn_Rv Lo w S a i1 ∧ sn_Ct Lo w y1 (ws_ y1 b1 n1 r1) rm (.ref a :: As) S Qy Ey) ∨ (sn_Rv Lo w S a i2 ∧ sn_Ct Lo w y2 (ws_ y2 b2 n2 r2) rm (.ref a :: As) S Qy Ey) ∨ (sn_Rv Lo w S a i3 ∧ sn_Ct Lo w y3 (ws_ y3 b3 n3 r3) rm (.ref a :: As) S Qy Ey))
    (hR : rm.frames + 1 ≤ R.frames ∧ 8 + (n1 + 11) + rm.locals ≤ R.locals ∧ 8 + (n2 + 11) + rm.locals ≤ R.locals ∧ 8 + (n3 + 11) + rm.locals ≤ R.locals) (hn : As.length = n) (hst : st = As.reverse ++ .ref a :: rest) (hw : (rest.map fun v => v.category).sum ≤ 8) (hb2 : rm.cells ≤ mc ∧ rm.slots ≤ ms ∧ mc - rm.cells = c2 ∧ ms - rm.slots = s2) (hd : decode cc pc = .ok (.invokevirtual index, 3))
    (kk : P → ∀ (v : Option Value) (S1 : sn_S), Qy v S1 → sn_G Lo w R Q E C c2 s2 (pc + 3) lv (v.toList ++ rest) S1) (kx : P → ∀ (cl : String) (q : Nat) (S1 : sn_S), Ey cl q S1 → sn_X Lo w R Q E C c2 s2 pc lv cl q S1) : P → sn_G Lo w R Q E C mc ms pc lv st S := by
  intro q
  rcases hM q with h | h | h
  · exact sn_callA (P := P) hO As hC1 (fun _ => h.1) (fun _ => h.2) ⟨hR.1, hR.2.1⟩ hn hst hw hb2 hd kk kx q
  · exact sn_callA (P := P) hO As hC2 (fun _ => h.1) (fun _ => h.2) ⟨hR.1, hR.2.2.1⟩ hn hst hw hb2 hd kk kx q
  · exact sn_callA (P := P) hO As hC3 (fun _ => h.1) (fun _ => h.2) ⟨hR.1, hR.2.2.2⟩ hn hst hw hb2 hd kk kx q
/-- a cast of an object whose class is one of several -/
theorem sn_castR (hO : sn_Ok Lo w C own cc nL ret tb nm) {index a : Nat} {nx : String} (hv : P → ∃ (ci : Nat) (r : vw_C), sn_Rv Lo w S a ci ∧ Lo.2.2.1[ci]? = some r ∧ (∀ (w : sn_W) (A : Nat → Prop) (U : State) (H : Heap), Lo.2.2.2.2 w A U H → va_Nw (.castable r.1 nx) U)) (hlink : Cond.classLink own index nx ∈ lw_all) (hd : decode cc pc = .ok (.checkcast index, 3)) (k : P → sn_G Lo w R Q E C mc ms (pc + 3) lv (.ref a :: rest) S) : P → sn_G Lo w R Q E C mc ms pc lv (.ref a :: rest) S := by
  intro q
  obtain ⟨ci, ⟨CN, T, N⟩, hr, hci, hca⟩ := hv q
  exact sn_cast (P := P) hO (fun _ => hr) hci hlink hca hd k q
def sn_cp (sp dp n : Int32) (n0 n1 : Nat) : Prop := ¬ sp < 0 ∧ ¬ dp < 0 ∧ ¬ n < 0 ∧ sp.toNatClampNeg + n.toNatClampNeg ≤ n0 ∧ dp.toNatClampNeg + n.toNatClampNeg ≤ n1
theorem sn_copyZ (hO : sn_Ok Lo w C own cc nL ret tb nm) {index ks kd t n0 n1 : Nat} {ty : FieldType} {sp dp n : Int32} (hs : sn_At Lo ks (.inr (t, n0, 0))) (hdst : sn_At Lo kd (.inr (t, n1, 0))) (ht : Lo.2.2.2.1[t]? = some ty) (hprim : refKind ty = false) (hlink : Cond.methodLink own index arraycopyName ∈ lw_all) (hnat : Cond.native arraycopyName ∈ lw_all) (hstat : Cond.static arraycopyName ∈ lw_all) (hini : Cond.initialized "java/lang/System" ∈ lw_all) (hR : 1 ≤ R.frames ∧ (rest.map fun v => v.category).sum + (nativeFrameWords "java/lang/System" "arraycopy" 5 + 11) ≤ R.locals) (hd : decode cc pc = .ok (.invokestatic index, 3))
    (kk : P → sn_G Lo w R Q E C mc ms (pc + 3) lv rest (sn_pA S kd (va_cpy (S.1 ks) (S.1 kd) sp.toNatClampNeg dp.toNatClampNeg n.toNatClampNeg))) : (sn_cp sp dp n n0 n1 ∧ (∀ i, i < n.toNatClampNeg → fits ty (.int (S.1 ks (sp.toNatClampNeg + i))) = true) ∧ P) → sn_G Lo w R Q E C mc ms pc lv (.int n :: .int dp :: .ref (w.2.2.1 kd) :: .int sp :: .ref (w.2.2.1 ks) :: rest) S := by
  obtain ⟨p, e, s, m, args, below, meth, c, A0⟩ := C
  intro ⟨⟨h1, h2, h3, h4, h5⟩, hf, q⟩ H locs ls hP hD hS hl hm
  refine va_copyi hO.1 hO.2.1 (by exact hl.1.symm) hO.2.2.2.2.2.1 (hO.2.2.2.2.2.2.1 _ hlink) (hO.2.2.2.2.2.2.1 _ hnat) (hO.2.2.2.2.2.2.1 _ hstat) (hO.2.2.2.2.2.2.1 _ hini) hO.2.2.2.2.2.2.2.1 hP hD hS ks kd t t (sn_ws_get w S hs.1 hs.2) (sn_ws_get w S hdst.1 hdst.2) (sn_ty_get w ht) (sn_ty_get w ht) hprim h1 h2 h3 h4 h5 hf hR.1 hR.2 hd (fun H1 locs1 hP hD hS => ?_)
  rw [sn_set_pA w S _ hdst.1 hdst.2] at hP hD
  exact kk q H1 locs1 ls hP hD hS hl hm
theorem sn_copyI (hO : sn_Ok Lo w C own cc nL ret tb nm) {index ks kd t n0 n1 : Nat} {sp dp n : Int32} (hs : sn_At Lo ks (.inr (t, n0, 0))) (hdst : sn_At Lo kd (.inr (t, n1, 0))) (ht : Lo.2.2.2.1[t]? = some .int) (hlink : Cond.methodLink own index arraycopyName ∈ lw_all) (hnat : Cond.native arraycopyName ∈ lw_all) (hstat : Cond.static arraycopyName ∈ lw_all) (hini : Cond.initialized "java/lang/System" ∈ lw_all) (hR : 1 ≤ R.frames ∧ (rest.map fun v => v.category).sum + (nativeFrameWords "java/lang/System" "arraycopy" 5 + 11) ≤ R.locals) (hd : decode cc pc = .ok (.invokestatic index, 3))
    (kk : P → sn_G Lo w R Q E C mc ms (pc + 3) lv rest (sn_pA S kd (va_cpy (S.1 ks) (S.1 kd) sp.toNatClampNeg dp.toNatClampNeg n.toNatClampNeg))) : (sn_cp sp dp n n0 n1 ∧ P) → sn_G Lo w R Q E C mc ms pc lv (.int n :: .int dp :: .ref (w.2.2.1 kd) :: .int sp :: .ref (w.2.2.1 ks) :: rest) S := fun h => sn_copyZ (P := P) hO hs hdst ht rfl hlink hnat hstat hini hR hd kk ⟨h.1, fun _ _ => rfl, h.2⟩
/-- an element of an array of walks, its key named -/
theorem sn_aaldW {isK : Nat → Bool} (hO : sn_Ok Lo w C own cc nL ret tb nm) {k t n j : Nat} {i : Int32} {CN : String} {K : Nat → Prop} (hat : sn_At Lo k (.inr (t, n, j + 3))) (ht : Lo.2.2.2.1[t]? = some (.object CN)) (hd : decode cc pc = .ok (.aaload, 1))
    (kk : ∀ x : Nat, isK x = true → K x → sn_G Lo w R Q E C mc ms (pc + 1) lv (.ref (w.2.2.1 x) :: rest) S) : (vp_in i n ∧ isK (j + 5 * i.toNatClampNeg) = true ∧ sn_lt (j + 5 * i.toNatClampNeg) K) → sn_G Lo w R Q E C mc ms pc lv (.int i :: .ref (w.2.2.1 k) :: rest) S := fun h => sn_aaldF (P := isK (j + 5 * i.toNatClampNeg) = true ∧ sn_lt (j + 5 * i.toNatClampNeg) K) hO hat ht hd (fun q => kk _ q.1 q.2) ⟨h.1, h.2.1, h.2.2⟩
theorem sn_nmK {x : Nat} {isK : Nat → Bool} {K : Nat → Prop} (k : ∀ v : Nat, isK v = true → K v → sn_G Lo w R Q E C mc ms pc lv (.ref (w.2.2.1 v) :: rest) S) : (isK x = true ∧ sn_lt x K) → sn_G Lo w R Q E C mc ms pc lv (.ref (w.2.2.1 x) :: rest) S := fun h => k x h.1 h.2
theorem sn_catQ (v : Option Nat) : (va_rf v).category = 1 := by cases v <;> rfl
theorem sn_mMax (hO : sn_Ok Lo w C own cc nL ret tb nm) {index : Nat} {x y : Int32} (hlink : Cond.methodLink own index Lib.Math.max.name ∈ lw_all) (hstat : Cond.static Lib.Math.max.name ∈ lw_all) (hini : Cond.initialized "java/lang/Math" ∈ lw_all) (hcode : Cond.code Lib.Math.max.name Lib.Math.max.code 2 (some .int) ∈ lw_all) (hR : 1 ≤ R.frames ∧ (rest.map fun v => v.category).sum + 13 ≤ R.locals) (hd : decode cc pc = .ok (.invokestatic index, 3))
    (kk : P → sn_G Lo w R Q E C mc ms (pc + 3) lv (.int (if x < y then y else x) :: rest) S) : P → sn_G Lo w R Q E C mc ms pc lv (.int y :: .int x :: rest) S := by
  obtain ⟨p, e, s, m, args, below, meth, c, A0⟩ := C
  intro q H locs ls hP hD hS hl hm
  exact va_mmax hO.1 hO.2.1 (by exact hl.1.symm) hO.2.2.2.2.2.1 (hO.2.2.2.2.2.2.1 _ hlink) (hO.2.2.2.2.2.2.1 _ hstat) (hO.2.2.2.2.2.2.1 _ hini) (hO.2.2.2.2.2.2.1 _ hcode) hR.1 hR.2 (Nat.sub_le _ _) (Nat.sub_le _ _) hd (kk q H locs ls hP hD hS hl hm)
theorem sn_mMin (hO : sn_Ok Lo w C own cc nL ret tb nm) {index : Nat} {x y : Int32} (hlink : Cond.methodLink own index Lib.Math.min.name ∈ lw_all) (hstat : Cond.static Lib.Math.min.name ∈ lw_all) (hini : Cond.initialized "java/lang/Math" ∈ lw_all) (hcode : Cond.code Lib.Math.min.name Lib.Math.min.code 2 (some .int) ∈ lw_all) (hR : 1 ≤ R.frames ∧ (rest.map fun v => v.category).sum + 13 ≤ R.locals) (hd : decode cc pc = .ok (.invokestatic index, 3))
    (kk : P → sn_G Lo w R Q E C mc ms (pc + 3) lv (.int (if y < x then y else x) :: rest) S) : P → sn_G Lo w R Q E C mc ms pc lv (.int y :: .int x :: rest) S := by
  obtain ⟨p, e, s, m, args, below, meth, c, A0⟩ := C
  intro q H locs ls hP hD hS hl hm
  exact va_mmin hO.1 hO.2.1 (by exact hl.1.symm) hO.2.2.2.2.2.1 (hO.2.2.2.2.2.2.1 _ hlink) (hO.2.2.2.2.2.2.1 _ hstat) (hO.2.2.2.2.2.2.1 _ hini) (hO.2.2.2.2.2.2.1 _ hcode) hR.1 hR.2 (Nat.sub_le _ _) (Nat.sub_le _ _) hd (kk q H locs ls hP hD hS hl hm)
theorem sn_mAbs (hO : sn_Ok Lo w C own cc nL ret tb nm) {index : Nat} {x : Int32} (hlink : Cond.methodLink own index Lib.Math.abs.name ∈ lw_all) (hstat : Cond.static Lib.Math.abs.name ∈ lw_all) (hini : Cond.initialized "java/lang/Math" ∈ lw_all) (hcode : Cond.code Lib.Math.abs.name Lib.Math.abs.code 1 (some .int) ∈ lw_all) (hR : 1 ≤ R.frames ∧ (rest.map fun v => v.category).sum + 13 ≤ R.locals) (hd : decode cc pc = .ok (.invokestatic index, 3))
    (kk : P → sn_G Lo w R Q E C mc ms (pc + 3) lv (.int (if 0 ≤ x then x else 0 - x) :: rest) S) : P → sn_G Lo w R Q E C mc ms pc lv (.int x :: rest) S := by
  obtain ⟨p, e, s, m, args, below, meth, c, A0⟩ := C
  intro q H locs ls hP hD hS hl hm
  exact va_mabs hO.1 hO.2.1 (by exact hl.1.symm) hO.2.2.2.2.2.1 (hO.2.2.2.2.2.2.1 _ hlink) (hO.2.2.2.2.2.2.1 _ hstat) (hO.2.2.2.2.2.2.1 _ hini) (hO.2.2.2.2.2.2.1 _ hcode) hR.1 hR.2 (Nat.sub_le _ _) (Nat.sub_le _ _) hd (kk q H locs ls hP hD hS hl hm)
theorem sn_mMaxL (hO : sn_Ok Lo w C own cc nL ret tb nm) {index : Nat} {x y : Int64} (hlink : Cond.methodLink own index Lib.MathLoose.max_long.x ∈ lw_all) (hstat : Cond.static Lib.MathLoose.max_long.x ∈ lw_all) (hini : Cond.initialized "java/lang/Math" ∈ lw_all) (hcode : Cond.code Lib.MathLoose.max_long.x Lib.MathLoose.max_long.code 4 (some .long) ∈ lw_all) (hR : 1 ≤ R.frames ∧ (rest.map fun v => v.category).sum + 15 ≤ R.locals) (hd : decode cc pc = .ok (.invokestatic index, 3))
    (kk : P → sn_G Lo w R Q E C mc ms (pc + 3) lv (.long (if y < x then x else y) :: rest) S) : P → sn_G Lo w R Q E C mc ms pc lv (.long y :: .long x :: rest) S := by
  obtain ⟨p, e, s, m, args, below, meth, c, A0⟩ := C
  intro q H locs ls hP hD hS hl hm
  exact va_mmax_long hO.1 hO.2.1 (by exact hl.1.symm) hO.2.2.2.2.2.1 (hO.2.2.2.2.2.2.1 _ hlink) (hO.2.2.2.2.2.2.1 _ hstat) (hO.2.2.2.2.2.2.1 _ hini) (hO.2.2.2.2.2.2.1 _ hcode) hR.1 hR.2 (Nat.sub_le _ _) (Nat.sub_le _ _) hd (kk q H locs ls hP hD hS hl hm)
theorem sn_mMinL (hO : sn_Ok Lo w C own cc nL ret tb nm) {index : Nat} {x y : Int64} (hlink : Cond.methodLink own index Lib.MathLoose.min_long.x ∈ lw_all) (hstat : Cond.static Lib.MathLoose.min_long.x ∈ lw_all) (hini : Cond.initialized "java/lang/Math" ∈ lw_all) (hcode : Cond.code Lib.MathLoose.min_long.x Lib.MathLoose.min_long.code 4 (some .long) ∈ lw_all) (hR : 1 ≤ R.frames ∧ (rest.map fun v => v.category).sum + 15 ≤ R.locals) (hd : decode cc pc = .ok (.invokestatic index, 3))
    (kk : P → sn_G Lo w R Q E C mc ms (pc + 3) lv (.long (if y < x then y else x) :: rest) S) : P → sn_G Lo w R Q E C mc ms pc lv (.long y :: .long x :: rest) S := by
  obtain ⟨p, e, s, m, args, below, meth, c, A0⟩ := C
  intro q H locs ls hP hD hS hl hm
  exact va_mmin_long hO.1 hO.2.1 (by exact hl.1.symm) hO.2.2.2.2.2.1 (hO.2.2.2.2.2.2.1 _ hlink) (hO.2.2.2.2.2.2.1 _ hstat) (hO.2.2.2.2.2.2.1 _ hini) (hO.2.2.2.2.2.2.1 _ hcode) hR.1 hR.2 (Nat.sub_le _ _) (Nat.sub_le _ _) hd (kk q H locs ls hP hD hS hl hm)
theorem sn_castXP (hO : sn_Ok Lo w C own cc nL ret tb nm) {index a ci : Nat} {CN : String} {T : u_T} {N : Nat} (hci : Lo.2.2.1[ci]? = some (CN, T, N)) (hlink : Cond.classLink own index CN ∈ lw_all) (hd : decode cc pc = .ok (.checkcast index, 3)) (k : P → sn_G Lo w R Q E C mc ms (pc + 3) lv (.ref a :: rest) S) : ((∃ fs, sn_oO S a ci fs) ∧ P) → sn_G Lo w R Q E C mc ms pc lv (.ref a :: rest) S := sn_castX (P := (∃ fs, sn_oO S a ci fs) ∧ P) hO sn_RvP hci hlink hd (fun h => k h.2)
theorem sn_castRP {A : Prop} (hO : sn_Ok Lo w C own cc nL ret tb nm) {index a : Nat} {nx : String} (hv : A → ∃ (ci : Nat) (r : vw_C), sn_Rv Lo w S a ci ∧ Lo.2.2.1[ci]? = some r ∧ (∀ (w : sn_W) (A : Nat → Prop) (U : State) (H : Heap), Lo.2.2.2.2 w A U H → va_Nw (.castable r.1 nx) U)) (hlink : Cond.classLink own index nx ∈ lw_all) (hd : decode cc pc = .ok (.checkcast index, 3)) (k : P → sn_G Lo w R Q E C mc ms (pc + 3) lv (.ref a :: rest) S) : (A ∧ P) → sn_G Lo w R Q E C mc ms pc lv (.ref a :: rest) S := sn_castR (P := A ∧ P) hO (fun h => hv h.1) hlink hd (fun h => k h.2)
end SNY
/-! THE ROW LAYER, fourth part: Strings, constructors, interface calls, copies in the pool. -/
section SNZ
variable {Lo : sn_Lo} {w : sn_W} {R : Room} {Q : Option Value → sn_S → Prop} {E : sn_E} {C : sn_C} {own nm : String} {cc : ByteArray} {nL : Nat} {ret : Option FieldType} {tb : List ExceptionTableEntry} {mc ms pc : Nat} {lv lv' : List (Nat × Value)} {rest st : List Value} {S : sn_S} {P A B : Prop}
def sn_CvT (own : String) (index : Nat) (y : MethodName) (by_ : ByteArray) (nY : Nat) (rY : Option FieldType) (n : Nat) : Prop := GoodIn lw_all (wsV own index "java/lang/String" y (ws_ y by_ nY rY)) ∧ (y.cls = "java/lang/String" ∧ y.cls ≠ "java/lang/invoke/MethodHandle" ∧ y.cls ≠ "java/lang/invoke/VarHandle" ∧ (parseMethodDescriptor y.desc).map (fun d => d.parameters.length) = some n)
theorem sn_callT (hO : sn_Ok Lo w C own cc nL ret tb nm) {i : Nat} {y : MethodName} {by_ : ByteArray} {nY : Nat} {rY : Option FieldType} {rm : Room} {index n c2 s2 : Nat} {Qy : Option Value → sn_S → Prop} {Ey : sn_E} (As : List Value) (hV : ∀ (w : sn_W) (A : Nat → Prop) (U : State) (H : Heap), Lo.2.2.2.2 w A U H → va_O "java/lang/String" (w.2.2.2.2.1 i) A U H) (hC : sn_CvT own index y by_ nY rY n) (hM : P → sn_Ct Lo w y (ws_ y by_ nY rY) rm (.ref (w.2.2.2.2.1 i) :: As) S Qy Ey) (hR : rm.frames + 1 ≤ R.frames ∧ 8 + (nY + 11) + rm.locals ≤ R.locals) (hn : As.length = n) (hst : st = As.reverse ++ .ref (w.2.2.2.2.1 i) :: rest) (hw : (rest.map fun v => v.category).sum ≤ 8) (hb2 : rm.cells ≤ mc ∧ rm.slots ≤ ms ∧ mc - rm.cells = c2 ∧ ms - rm.slots = s2) (hd : decode cc pc = .ok (.invokevirtual index, 3))
    (kk : P → ∀ (v : Option Value) (S1 : sn_S), Qy v S1 → sn_G Lo w R Q E C c2 s2 (pc + 3) lv (v.toList ++ rest) S1) (kx : P → ∀ (cl : String) (q : Nat) (S1 : sn_S), Ey cl q S1 → sn_X Lo w R Q E C c2 s2 pc lv cl q S1) : P → sn_G Lo w R Q E C mc ms pc lv st S := by
  subst hst
  obtain ⟨p, e, s, m, args, below, meth, c, A0⟩ := C
  intro q H locs ls hP hD hS hl hm
  obtain ⟨hb2a, hb2b, rfl, rfl⟩ := hb2
  have hw1 : R.cells - mc + rm.cells ≤ R.cells - (mc - rm.cells) := by omega
  have hw2 : R.slots - ms + rm.slots ≤ R.slots - (ms - rm.slots) := by omega
  have hm2 : mc - rm.cells ≤ R.cells ∧ ms - rm.slots ≤ R.slots := ⟨by omega, by omega⟩
  obtain ⟨hx, hb, hml, hr, hlk, ho, hts, hK, hA, hX, hX0, htb, hnm⟩ := hO
  obtain ⟨hT, hd0⟩ := hC
  have hrun := vx_runV (cells := R.cells - mc) (slots := R.slots - ms) (locs := locs) (e := e) (args := args) (below := below) (meth := meth) (g := F0 m pc ls (As.reverse ++ .ref (w.2.2.2.2.1 i) :: rest)) (As := As) (rest := rest) (b := w.2.2.2.2.1 i) ⟨hx, hb, hml, ho, hts⟩ (hM q H.size) (cwV n hts hT rfl rfl rfl hd0 hR) ⟨sn_blind hX, va_Orecv (hV _ _ _ _ hX0) hS, sn_pre hX hX0 hK hP hD hS hA⟩ rfl hn (by rw [← hml]; exact hl.1) rfl (lv_room (pc := pc) (ls := ls) (rest := As.reverse ++ .ref (w.2.2.2.2.1 i) :: rest) hw) hd ⟨Nat.le_trans hw1 (Nat.sub_le _ _), Nat.le_trans hw2 (Nat.sub_le _ _)⟩
  exact sn_call hrun hD hS hA (fun v S1 H1 locs1 hq hP hD hS => W.widen hw1 hw2 (kk q v S1 hq H1 locs1 ls hP hD hS hl hm2)) (fun cl q9 S1 H1 locs1 hq hP hD hS hc => vx_widen hw1 hw2 (kx q cl q9 S1 hq H1 locs1 ls rest hP hD hS hl hm2 hc))
/-- a String constant's field -/
theorem sn_tget (hO : sn_Ok Lo w C own cc nL ret tb nm) {index a : Nat} {n d : String} {v : Value} (hz : ∀ (A : Nat → Prop) (U : State) (H : Heap), Lo.2.2.2.2 w A U H → va_OF "java/lang/String" n d v a A U H) (hlink : Cond.fieldLink own index "java/lang/String" n d ∈ lw_all) (hd : decode cc pc = .ok (.getfield index, 3)) (k : P → sn_G Lo w R Q E C mc ms (pc + 3) lv (v :: rest) S) : P → sn_G Lo w R Q E C mc ms pc lv (.ref a :: rest) S := by
  obtain ⟨p, e, s, m, args, below, meth, c, A0⟩ := C
  intro q H locs ls hP hD hS hl hm
  exact vk_getf hO.1 hO.2.1 (hz _ _ _ hO.2.2.2.2.2.2.2.2.2.2.1) hS hO.2.2.2.2.2.1 (hO.2.2.2.2.2.2.1 _ hlink) (fun _ h => h) hd (k q H locs ls hP hD hS hl hm)
theorem sn_tlen (hO : sn_Ok Lo w C own cc nL ret tb nm) {t N : Nat} {f : Nat → Value} (hz : ∀ (A : Nat → Prop) (U : State) (H : Heap), Lo.2.2.2.2 w A U H → va_T .byte t N f A U H) (hd : decode cc pc = .ok (.arraylength, 1)) (k : P → sn_G Lo w R Q E C mc ms (pc + 1) lv (.int (Int32.ofNat N) :: rest) S) : P → sn_G Lo w R Q E C mc ms pc lv (.ref t :: rest) S := by
  obtain ⟨p, e, s, m, args, below, meth, c, A0⟩ := C
  intro q H locs ls hP hD hS hl hm
  exact va_tlen hO.1 hO.2.1 (hz _ _ _ hO.2.2.2.2.2.2.2.2.2.2.1) hS rfl hd (k q H locs ls hP hD hS hl hm)
theorem sn_tb (hO : sn_Ok Lo w C own cc nL ret tb nm) {t N : Nat} {f : Nat → Int32} {i : Int32} (hz : ∀ (A : Nat → Prop) (U : State) (H : Heap), Lo.2.2.2.2 w A U H → va_T .byte t N (fun j => .int (f j)) A U H) (hd : decode cc pc = .ok (.baload, 1)) (k : P → sn_G Lo w R Q E C mc ms (pc + 1) lv (.int (f i.toNatClampNeg) :: rest) S) : (vp_in i N ∧ P) → sn_G Lo w R Q E C mc ms pc lv (.int i :: .ref t :: rest) S := by
  obtain ⟨p, e, s, m, args, below, meth, c, A0⟩ := C
  intro q H locs ls hP hD hS hl hm
  exact va_tb hO.1 hO.2.1 (hz _ _ _ hO.2.2.2.2.2.2.2.2.2.2.1) hS q.1 rfl hd (k q.2 H locs ls hP hD hS hl hm)
theorem sn_objInit (hO : sn_Ok Lo w C own cc nL ret tb nm) {index a : Nat} (hlink : Cond.methodLink own index Lib.objectInit ∈ lw_all) (hinst : Cond.instanceMethod Lib.objectInit ∈ lw_all) (hcode : Cond.code Lib.objectInit ⟨#[0xb1]⟩ 1 none ∈ lw_all) (hR : 1 ≤ R.frames ∧ (rest.map fun v => v.category).sum + 12 ≤ R.locals) (hd : decode cc pc = .ok (.invokespecial index, 3)) (k : P → sn_G Lo w R Q E C mc ms (pc + 3) lv rest S) : P → sn_G Lo w R Q E C mc ms pc lv (.ref a :: rest) S := by
  obtain ⟨p, e, s, m, args, below, meth, c, A0⟩ := C
  intro q H locs ls hP hD hS hl hm
  refine W.objInit hO.1 hO.2.1 hO.2.2.2.2.2.1 (hO.2.2.2.2.2.2.1 _ hlink) (hO.2.2.2.2.2.2.1 _ hinst) (hO.2.2.2.2.2.2.1 _ hcode) rfl (by exact hl.1) rfl hd hR.1 (by show 2 * 0 + _ + 12 ≤ _; omega) ?_
  exact W.eq (g2 := F0 m (pc + 3) ls rest) rfl (k q H locs ls hP hD hS hl hm)
theorem sn_oputP (hO : sn_Ok Lo w C own cc nL ret tb nm) {index ci i c0 a : Nat} {cs : List Nat} {ty : FieldType} {v : Value} {K : sn_S → Prop} (hf : sn_Fc Lo own index ci cs i c0 false ty) (hd : decode cc pc = .ok (.putfield index, 3))
    (kk : ∀ S1 : sn_S, K S1 → sn_G Lo w R Q E C mc ms (pc + 3) lv rest S1) : ((narrow ty v = v ∧ fits ty v = true) ∧ sn_sV S a ci i v K) → sn_G Lo w R Q E C mc ms pc lv (v :: .ref a :: rest) S := fun q => sn_oput hO hf q.1.1 q.1.2 hd kk q.2
theorem sn_oputFP (hO : sn_Ok Lo w C own cc nL ret tb "<init>") {index ci i c0 a : Nat} {cs : List Nat} {ty : FieldType} {v : Value} {K : sn_S → Prop} (hf : sn_Fc Lo own index ci cs i c0 true ty) (hdecl : ∀ (CN : String) (T : u_T) (N : Nat), Lo.2.2.1[ci]? = some (CN, T, N) → (T i).1 = own) (hd : decode cc pc = .ok (.putfield index, 3))
    (kk : ∀ S1 : sn_S, K S1 → sn_G Lo w R Q E C mc ms (pc + 3) lv rest S1) : ((narrow ty v = v ∧ fits ty v = true) ∧ sn_sV S a ci i v K) → sn_G Lo w R Q E C mc ms pc lv (v :: .ref a :: rest) S := fun q => sn_oputF hO hf hdecl q.1.1 q.1.2 hd kk q.2
/-- a field named through a class below the one that lays it -/
def sn_FcS (Lo : sn_Lo) (own : String) (index ci i : Nat) (fin : Bool) (ty : FieldType) : Prop := ∃ (CN ref : String) (T : u_T) (N : Nat) (tyf : Nat → FieldType), (∀ v ∈ u_ws CN T N, v ∈ lw_all) ∧ (∀ k, k < N → parseFieldDescriptor (T k).2.2.1 = some (tyf k)) ∧ (∀ a, a < N → ∀ b, b < N → a ≠ b → (T a).2.1 ≠ (T b).2.1) ∧ Lo.2.2.1[ci]? = some (CN, T, N) ∧ i < N ∧ Cond.fieldLink own index ref (T i).2.1 (T i).2.2.1 ∈ lw_all ∧ Cond.sameField ref (T i).1 (T i).2.1 (T i).2.2.1 ∈ lw_all ∧ (T i).2.2.2 = fin ∧ parseFieldDescriptor (T i).2.2.1 = some ty
theorem sn_ogetS (hO : sn_Ok Lo w C own cc nL ret tb nm) {index ci i a : Nat} {fin : Bool} {ty : FieldType} {K : Int32 → Prop} (hf : sn_FcS Lo own index ci i fin ty) (hd : decode cc pc = .ok (.getfield index, 3))
    (kk : ∀ x : Int32, K x → sn_G Lo w R Q E C mc ms (pc + 3) lv (.int x :: rest) S) : sn_gI S a ci i K → sn_G Lo w R Q E C mc ms pc lv (.ref a :: rest) S := by
  obtain ⟨CN, ref, T, N, tyf, hin, hty, hnm, hcl, hi, hq, hsf, hfin, hd2⟩ := hf
  obtain ⟨p, e, s, m, args, below, meth, c, A0⟩ := C
  intro q H locs ls hP hD hS hl hm
  obtain ⟨fs, x, ⟨hm1, hm2⟩, hx, h⟩ := q
  obtain ⟨q0, hq0⟩ := sn_pl_at (Lo := Lo) (w := w) hm1 hm2
  exact va_get hO.1 hO.2.1 hO.2.2.2.2.2.2.1 hin hO.2.2.2.2.2.1 hO.2.2.2.2.2.2.2.1 hP q0 hq0 hcl i hi (hO.2.2.2.2.2.2.1 _ hq) (u_same (hO.2.2.2.2.2.2.1 _ hsf)) hx hd (kk x h H locs ls hP hD hS hl hm)
theorem sn_oputS (hO : sn_Ok Lo w C own cc nL ret tb nm) {index ci i a : Nat} {ty : FieldType} {v : Value} {K : sn_S → Prop} (hf : sn_FcS Lo own index ci i false ty) (hn : narrow ty v = v) (hfit : fits ty v = true) (hd : decode cc pc = .ok (.putfield index, 3))
    (kk : ∀ S1 : sn_S, K S1 → sn_G Lo w R Q E C mc ms (pc + 3) lv rest S1) : sn_sV S a ci i v K → sn_G Lo w R Q E C mc ms pc lv (v :: .ref a :: rest) S := by
  obtain ⟨CN, ref, T, N, tyf, hin, hty, hnm, hcl, hi, hq, hsf, hfin, hd2⟩ := hf
  obtain ⟨p, e, s, m, args, below, meth, c, A0⟩ := C
  intro q H locs ls hP hD hS hl hm
  obtain ⟨fs, ⟨hm1, hm2⟩, hx, h⟩ := q
  obtain ⟨q0, hq0⟩ := sn_pl_at (Lo := Lo) (w := w) hm1 hm2
  refine va_put hO.1 hO.2.1 hO.2.2.2.2.2.2.1 hin tyf hty hnm hO.2.2.2.2.2.1 hO.2.2.2.2.2.2.2.1 hP hD hS q0 hq0 hcl i hi (hO.2.2.2.2.2.2.1 _ hq) (u_same (hO.2.2.2.2.2.2.1 _ hsf)) hfin hd2 hn hfit hx hd (fun H1 locs1 hP1 hD1 hS1 => ?_)
  rw [sn_pl_set _ hD hm1 hm2 hq0] at hP1 hD1
  exact kk _ h H1 locs1 ls hP1 hD1 hS1 hl hm
theorem sn_athrowA (hO : sn_Ok Lo w C own cc nL ret tb nm) {ci a : Nat} {CN : String} {T : u_T} {N : Nat} (hci : Lo.2.2.1[ci]? = some (CN, T, N)) (hd : decode cc pc = .ok (.athrow, 1)) (k : P → sn_X Lo w R Q E C mc ms pc lv CN a S) : ((∃ fs, sn_oO S a ci fs) ∧ P) → sn_G Lo w R Q E C mc ms pc lv (.ref a :: rest) S := by
  rintro ⟨⟨fs, h1, h2⟩, h⟩
  obtain ⟨q0, hq0⟩ := sn_pl_at (Lo := Lo) (w := w) h1 h2
  exact sn_athrow (P := P) hO (fun _ => hq0) hci hd k h
/-- any object of the pool laid into a row of CN -/
theorem sn_oastP (hO : sn_Ok Lo w C own cc nL ret tb nm) {t a v : Nat} {i : Int32} {CN : String} {K : sn_S → Prop} (ht : Lo.2.2.2.1[t]? = some (.object CN)) (hany : sn_Any Lo CN) (hd : decode cc pc = .ok (.aastore, 1))
    (kk : ∀ S1 : sn_S, K S1 → sn_G Lo w R Q E C mc ms (pc + 1) lv rest S1) : ((∃ ci fs, sn_oO S v ci fs) ∧ sn_uQ w S a t i (some v) K) → sn_G Lo w R Q E C mc ms pc lv (.ref v :: .int i :: .ref a :: rest) S := by
  obtain ⟨p, e, s, m, args, below, meth, c, A0⟩ := C
  rintro ⟨⟨ci, fs, hv1, hv2⟩, q⟩ H locs ls hP hD hS hl hm
  obtain ⟨n, g, ⟨hm1, hm2⟩, hx, h⟩ := q
  obtain ⟨q0, hq0⟩ := sn_pl_at (Lo := Lo) (w := w) hm1 hm2
  obtain ⟨q1, hq1⟩ := sn_pl_at (Lo := Lo) (w := w) hv1 hv2
  obtain ⟨r, hr, -⟩ := hP q1 _ hq1
  refine va_astqO hO.1 hO.2.1 hO.2.2.2.2.2.2.2.1 hP hD hS q0 t q1 ci hq0 (sn_ty_get w ht) (hany _ _ _ _ hO.2.2.2.2.2.2.2.2.2.2.1 ci r hr) hq1 hr hx hd (fun H1 locs1 hP1 hD1 hS1 => ?_)
  rw [sn_pl_set _ hD hm1 hm2 hq0] at hP1 hD1
  exact kk _ h H1 locs1 ls hP1 hD1 hS1 hl hm
theorem sn_getC (hO : sn_Ok Lo w C own cc nL ret tb nm) {index t a : Nat} {CN nmA : String} (hz : ∀ (w : sn_W) (A : Nat → Prop) (U : State) (H : Heap), Lo.2.2.2.2 w A U H → va_Mi nmA w.2.2.2.2.2.2 U) (hdec : ∀ (w : sn_W) (A : Nat → Prop) (U : State) (H : Heap), Lo.2.2.2.2 w A U H → va_Nw (.declares ⟨"java/lang/Object", "getClass", "()Ljava/lang/Class;"⟩) U) (ht : Lo.2.2.2.1[t]? = some (.object CN)) (hnmA : "[" ++ (FieldType.object CN).toString = nmA) (hlink : Cond.methodLink own index ⟨"java/lang/Object", "getClass", "()Ljava/lang/Class;"⟩ ∈ lw_all) (hsel : Cond.selects nmA ⟨"java/lang/Object", "getClass", "()Ljava/lang/Class;"⟩ ⟨"java/lang/Object", "getClass", "()Ljava/lang/Class;"⟩ ∈ lw_all) (hinst : Cond.instanceMethod ⟨"java/lang/Object", "getClass", "()Ljava/lang/Class;"⟩ ∈ lw_all) (hnat : Cond.native ⟨"java/lang/Object", "getClass", "()Ljava/lang/Class;"⟩ ∈ lw_all) (hR : 1 ≤ R.frames ∧ (rest.map fun v => v.category).sum + 14 ≤ R.locals) (hd : decode cc pc = .ok (.invokevirtual index, 3))
    (k : P → sn_G Lo w R Q E C mc ms (pc + 3) lv (.ref w.2.2.2.2.2.2 :: rest) S) : ((∃ n f, sn_oR S a (w.2.1 t, n, f)) ∧ P) → sn_G Lo w R Q E C mc ms pc lv (.ref a :: rest) S := by
  obtain ⟨p, e, s, m, args, below, meth, c, A0⟩ := C
  rintro ⟨⟨n, f, hm1, hm2⟩, q⟩ H locs ls hP hD hS hl hm
  obtain ⟨q0, hq0⟩ := sn_pl_at (Lo := Lo) (w := w) hm1 hm2
  have hc : H[a]? = some (vp_cell (w.2.1 t) (n, f)) := hP q0 _ hq0
  have hfc := va_nmO ((hO.2.2.2.2.2.2.2.1).2 t _ (sn_ty_get w ht)).2 hnmA
  refine va_getC hO.1 hO.2.1 (by exact hl.1.symm) hO.2.2.2.2.2.1 (hO.2.2.2.2.2.2.1 _ hlink) (va_Nw.use rfl (hdec _ _ _ _ hO.2.2.2.2.2.2.2.2.2.2.1)) (hO.2.2.2.2.2.2.1 _ hsel) (hO.2.2.2.2.2.2.1 _ hinst) (hO.2.2.2.2.2.2.1 _ hnat) (hz _ _ _ _ hO.2.2.2.2.2.2.2.2.2.2.1) ⟨_, hc, ?_, ?_⟩ hR.1 hR.2 hd (k q H locs ls hP hD hS hl hm)
  · rcases f with f | f | f | f | f <;> rfl
  · rcases f with f | f | f | f | f <;> exact hfc
def sn_cKA (w : sn_W) (S : sn_S) (ks a t n0 : Nat) (ty : FieldType) (sp dp n : Int32) (K : sn_S → Prop) : Prop := ∃ (n1 : Nat) (g : Nat → Int32), sn_oR S a (w.2.1 t, n1, .inl g) ∧ sn_cp sp dp n n0 n1 ∧ (∀ i, i < n.toNatClampNeg → fits ty (.int (S.1 ks (sp.toNatClampNeg + i))) = true) ∧ K (sn_pO S a (.inl (w.2.1 t, n1, .inl (va_cpy (S.1 ks) g sp.toNatClampNeg dp.toNatClampNeg n.toNatClampNeg))))
def sn_cAK (w : sn_W) (S : sn_S) (a kd t n1 : Nat) (ty : FieldType) (sp dp n : Int32) (K : sn_S → Prop) : Prop := ∃ (n0 : Nat) (f : Nat → Int32), sn_oR S a (w.2.1 t, n0, .inl f) ∧ sn_cp sp dp n n0 n1 ∧ (∀ i, i < n.toNatClampNeg → fits ty (.int (f (sp.toNatClampNeg + i))) = true) ∧ K (sn_pA S kd (va_cpy f (S.1 kd) sp.toNatClampNeg dp.toNatClampNeg n.toNatClampNeg))
def sn_cAA (w : sn_W) (S : sn_S) (a b t : Nat) (sp dp n : Int32) (K : sn_S → Prop) : Prop := ∃ (n0 n1 : Nat) (f g : Nat → Option Nat), sn_oR S a (w.2.1 t, n0, .inr (.inr (.inr (.inr f)))) ∧ sn_oR S b (w.2.1 t, n1, .inr (.inr (.inr (.inr g)))) ∧ sn_cp sp dp n n0 n1 ∧ (∀ i, i < n.toNatClampNeg → ∀ y, f (sp.toNatClampNeg + i) = some y → ∃ ci fs, sn_oO S y ci fs) ∧ K (sn_pO S b (.inl (w.2.1 t, n1, .inr (.inr (.inr (.inr (va_cpy f g sp.toNatClampNeg dp.toNatClampNeg n.toNatClampNeg)))))))
theorem sn_copyKA (hO : sn_Ok Lo w C own cc nL ret tb nm) {index ks a t n0 : Nat} {ty : FieldType} {sp dp n : Int32} {K : sn_S → Prop} (hs : sn_At Lo ks (.inr (t, n0, 0))) (ht : Lo.2.2.2.1[t]? = some ty) (hprim : refKind ty = false) (hlink : Cond.methodLink own index arraycopyName ∈ lw_all) (hnat : Cond.native arraycopyName ∈ lw_all) (hstat : Cond.static arraycopyName ∈ lw_all) (hini : Cond.initialized "java/lang/System" ∈ lw_all) (hR : 1 ≤ R.frames ∧ (rest.map fun v => v.category).sum + (nativeFrameWords "java/lang/System" "arraycopy" 5 + 11) ≤ R.locals) (hd : decode cc pc = .ok (.invokestatic index, 3))
    (kk : ∀ S1 : sn_S, K S1 → sn_G Lo w R Q E C mc ms (pc + 3) lv rest S1) : sn_cKA w S ks a t n0 ty sp dp n K → sn_G Lo w R Q E C mc ms pc lv (.int n :: .int dp :: .ref a :: .int sp :: .ref (w.2.2.1 ks) :: rest) S := by
  obtain ⟨p, e, s, m, args, below, meth, c, A0⟩ := C
  rintro ⟨n1, g, ⟨hm1, hm2⟩, ⟨h1, h2, h3, h4, h5⟩, hf, q⟩ H locs ls hP hD hS hl hm
  obtain ⟨q0, hq0⟩ := sn_pl_at (Lo := Lo) (w := w) hm1 hm2
  refine va_copyi hO.1 hO.2.1 (by exact hl.1.symm) hO.2.2.2.2.2.1 (hO.2.2.2.2.2.2.1 _ hlink) (hO.2.2.2.2.2.2.1 _ hnat) (hO.2.2.2.2.2.2.1 _ hstat) (hO.2.2.2.2.2.2.1 _ hini) hO.2.2.2.2.2.2.2.1 hP hD hS ks q0 t t (sn_ws_get w S hs.1 hs.2) hq0 (sn_ty_get w ht) (sn_ty_get w ht) hprim h1 h2 h3 h4 h5 hf hR.1 hR.2 hd (fun H1 locs1 hP1 hD1 hS1 => ?_)
  rw [sn_pl_set _ hD hm1 hm2 hq0] at hP1 hD1
  exact kk _ q H1 locs1 ls hP1 hD1 hS1 hl hm
theorem sn_copyAK (hO : sn_Ok Lo w C own cc nL ret tb nm) {index a kd t n1 : Nat} {ty : FieldType} {sp dp n : Int32} {K : sn_S → Prop} (hdst : sn_At Lo kd (.inr (t, n1, 0))) (ht : Lo.2.2.2.1[t]? = some ty) (hprim : refKind ty = false) (hlink : Cond.methodLink own index arraycopyName ∈ lw_all) (hnat : Cond.native arraycopyName ∈ lw_all) (hstat : Cond.static arraycopyName ∈ lw_all) (hini : Cond.initialized "java/lang/System" ∈ lw_all) (hR : 1 ≤ R.frames ∧ (rest.map fun v => v.category).sum + (nativeFrameWords "java/lang/System" "arraycopy" 5 + 11) ≤ R.locals) (hd : decode cc pc = .ok (.invokestatic index, 3))
    (kk : ∀ S1 : sn_S, K S1 → sn_G Lo w R Q E C mc ms (pc + 3) lv rest S1) : sn_cAK w S a kd t n1 ty sp dp n K → sn_G Lo w R Q E C mc ms pc lv (.int n :: .int dp :: .ref (w.2.2.1 kd) :: .int sp :: .ref a :: rest) S := by
  obtain ⟨p, e, s, m, args, below, meth, c, A0⟩ := C
  rintro ⟨n0, f, ⟨hm1, hm2⟩, ⟨h1, h2, h3, h4, h5⟩, hf, q⟩ H locs ls hP hD hS hl hm
  obtain ⟨q0, hq0⟩ := sn_pl_at (Lo := Lo) (w := w) hm1 hm2
  refine va_copyi hO.1 hO.2.1 (by exact hl.1.symm) hO.2.2.2.2.2.1 (hO.2.2.2.2.2.2.1 _ hlink) (hO.2.2.2.2.2.2.1 _ hnat) (hO.2.2.2.2.2.2.1 _ hstat) (hO.2.2.2.2.2.2.1 _ hini) hO.2.2.2.2.2.2.2.1 hP hD hS q0 kd t t hq0 (sn_ws_get w S hdst.1 hdst.2) (sn_ty_get w ht) (sn_ty_get w ht) hprim h1 h2 h3 h4 h5 hf hR.1 hR.2 hd (fun H1 locs1 hP1 hD1 hS1 => ?_)
  rw [sn_set_pA w S _ hdst.1 hdst.2] at hP1 hD1
  exact kk _ q H1 locs1 ls hP1 hD1 hS1 hl hm
theorem sn_copyAA (hO : sn_Ok Lo w C own cc nL ret tb nm) {index a b t : Nat} {CN : String} {sp dp n : Int32} {K : sn_S → Prop} (ht : Lo.2.2.2.1[t]? = some (.object CN)) (hany : sn_Any Lo CN) (hlink : Cond.methodLink own index arraycopyName ∈ lw_all) (hnat : Cond.native arraycopyName ∈ lw_all) (hstat : Cond.static arraycopyName ∈ lw_all) (hini : Cond.initialized "java/lang/System" ∈ lw_all) (hR : 1 ≤ R.frames ∧ (rest.map fun v => v.category).sum + (nativeFrameWords "java/lang/System" "arraycopy" 5 + 11) ≤ R.locals) (hd : decode cc pc = .ok (.invokestatic index, 3))
    (kk : ∀ S1 : sn_S, K S1 → sn_G Lo w R Q E C mc ms (pc + 3) lv rest S1) : sn_cAA w S a b t sp dp n K → sn_G Lo w R Q E C mc ms pc lv (.int n :: .int dp :: .ref b :: .int sp :: .ref a :: rest) S := by
  obtain ⟨p, e, s, m, args, below, meth, c, A0⟩ := C
  rintro ⟨n0, n1, f, g, ⟨ha1, ha2⟩, ⟨hm1, hm2⟩, ⟨h1, h2, h3, h4, h5⟩, hf, q⟩ H locs ls hP hD hS hl hm
  obtain ⟨qa, hqa⟩ := sn_pl_at (Lo := Lo) (w := w) ha1 ha2
  obtain ⟨q0, hq0⟩ := sn_pl_at (Lo := Lo) (w := w) hm1 hm2
  refine va_copyM hO.1 hO.2.1 (by exact hl.1.symm) hO.2.2.2.2.2.1 (hO.2.2.2.2.2.2.1 _ hlink) (hO.2.2.2.2.2.2.1 _ hnat) (hO.2.2.2.2.2.2.1 _ hstat) (hO.2.2.2.2.2.2.1 _ hini) hO.2.2.2.2.2.2.2.1 hP hD hS qa q0 t t hqa hq0 (sn_ty_get w ht) (sn_ty_get w ht) h1 h2 h3 h4 h5 (fun i hi y hy => ?_) hR.1 hR.2 hd (fun H1 locs1 hP1 hD1 hS1 => ?_)
  · obtain ⟨ci, fs, hv⟩ := hf i hi y hy
    obtain ⟨qv, hqv⟩ := sn_pl_at (Lo := Lo) (w := w) hv.1 hv.2
    obtain ⟨r, hr, -⟩ := hP qv _ hqv
    exact va_rAny hO.2.2.2.2.2.2.2.1 hP hqv hr (vb_asgC (hany w _ _ _ hO.2.2.2.2.2.2.2.2.2.2.1 ci r hr))
  · rw [sn_pl_set _ hD hm1 hm2 hq0] at hP1 hD1
    exact kk _ q H1 locs1 ls hP1 hD1 hS1 hl hm
theorem sn_oastE (hO : sn_Ok Lo w C own cc nL ret tb nm) {t a ci v : Nat} {i : Int32} {r : vw_C} {K : sn_S → Prop} (ht : Lo.2.2.2.1[t]? = some (.object r.1)) (hci : Lo.2.2.1[ci]? = some r) (hd : decode cc pc = .ok (.aastore, 1))
    (kk : ∀ S1 : sn_S, K S1 → sn_G Lo w R Q E C mc ms (pc + 1) lv rest S1) : ((∃ fs, sn_oO S v ci fs) ∧ sn_uQ w S a t i (some v) K) → sn_G Lo w R Q E C mc ms pc lv (.ref v :: .int i :: .ref a :: rest) S := by
  obtain ⟨p, e, s, m, args, below, meth, c, A0⟩ := C
  rintro ⟨⟨fs, hv1, hv2⟩, q⟩ H locs ls hP hD hS hl hm
  obtain ⟨n, g, ⟨hm1, hm2⟩, hx, h⟩ := q
  obtain ⟨q0, hq0⟩ := sn_pl_at (Lo := Lo) (w := w) hm1 hm2
  obtain ⟨q1, hq1⟩ := sn_pl_at (Lo := Lo) (w := w) hv1 hv2
  refine va_astq hO.1 hO.2.1 hO.2.2.2.2.2.2.2.1 hP hD hS q0 t q1 ci hq0 (sn_ty_get w ht) hq1 hci hx hd (fun H1 locs1 hP1 hD1 hS1 => ?_)
  rw [sn_pl_set _ hD hm1 hm2 hq0] at hP1 hD1
  exact kk _ h H1 locs1 ls hP1 hD1 hS1 hl hm
theorem sn_aastP (hO : sn_Ok Lo w C own cc nL ret tb nm) {k t n ci v : Nat} {i : Int32} {r : vw_C} (hat : sn_At Lo k (.inr (t, n, 2))) (ht : Lo.2.2.2.1[t]? = some (.object r.1)) (hci : Lo.2.2.1[ci]? = some r) (hd : decode cc pc = .ok (.aastore, 1))
    (kk : P → sn_G Lo w R Q E C mc ms (pc + 1) lv rest (sn_pR S k i.toNatClampNeg (some v))) : ((∃ fs, sn_oO S v ci fs) ∧ vp_in i n ∧ P) → sn_G Lo w R Q E C mc ms pc lv (.ref v :: .int i :: .ref (w.2.2.1 k) :: rest) S := by
  rintro ⟨⟨fs, hv⟩, h1, h2⟩
  exact sn_aast (P := P) hO hat ht hci (fun _ => hv) hd kk ⟨h1, h2⟩
def sn_uJ (w : sn_W) (S : sn_S) (a t : Nat) (i : Int32) (x : Int64) (K : sn_S → Prop) : Prop := ∃ (n : Nat) (g : Nat → Int64), sn_oR S a (w.2.1 t, n, .inr (.inl g)) ∧ vp_in i n ∧ K (sn_pO S a (.inl (w.2.1 t, n, .inr (.inl (vp_updL g i.toNatClampNeg x)))))
theorem sn_olast (hO : sn_Ok Lo w C own cc nL ret tb nm) {t a : Nat} {i : Int32} {x : Int64} {K : sn_S → Prop} (ht : Lo.2.2.2.1[t]? = some .long) (hd : decode cc pc = .ok (.lastore, 1))
    (kk : ∀ S1 : sn_S, K S1 → sn_G Lo w R Q E C mc ms (pc + 1) lv rest S1) : sn_uJ w S a t i x K → sn_G Lo w R Q E C mc ms pc lv (.long x :: .int i :: .ref a :: rest) S := by
  obtain ⟨p, e, s, m, args, below, meth, c, A0⟩ := C
  intro q H locs ls hP hD hS hl hm
  obtain ⟨n, g, ⟨hm1, hm2⟩, hx, h⟩ := q
  obtain ⟨q0, hq0⟩ := sn_pl_at (Lo := Lo) (w := w) hm1 hm2
  refine va_last hO.1 hO.2.1 hO.2.2.2.2.2.2.2.1 hP hD hS q0 t hq0 (sn_ty_get w ht) hx hd (fun H1 locs1 hP1 hD1 hS1 => ?_)
  rw [sn_pl_set _ hD hm1 hm2 hq0] at hP1 hD1
  exact kk _ h H1 locs1 ls hP1 hD1 hS1 hl hm
def sn_CvF (Lo : sn_Lo) (own : String) (index : Nat) (x y : MethodName) (by_ : ByteArray) (nY : Nat) (rY : Option FieldType) (n ci : Nat) : Prop := ∃ (CN : String) (T : u_T) (N : Nat), GoodIn lw_all (va_wsF own index CN x y (ws_ y by_ nY rY)) ∧ (∀ w A U H, Lo.2.2.2.2 w A U H → va_Fw CN x y U) ∧ Lo.2.2.1[ci]? = some (CN, T, N) ∧ (x.cls ≠ "java/lang/invoke/MethodHandle" ∧ x.cls ≠ "java/lang/invoke/VarHandle" ∧ (parseMethodDescriptor x.desc).map (fun d => d.parameters.length) = some n)
theorem sn_call5 {s : State} {H : Heap} {locs : List Loc} {cells slots mY sY : Nat} {ls : Array Slot} {stk : List Value} {p : Program} {e : Env} {m : MethodId} {args a : Array Value} {below : List Frame} {meth : Method} {c : Code} {A0 : Nat → Prop} {Qy : Option Value → sn_S → Prop} {Ey : sn_E} {Qf : State → Prop} {l : Launch}
    (hr : vx_Run5 p l e R s m args below meth c H locs cells slots mY sY (F0 m pc ls stk) rest (sn_Q Lo w (va_A (sn_ws Lo w S) H.size) Qy a) (sn_XC Lo w (va_A (sn_ws Lo w S) H.size) Ey) (va_A (sn_ws Lo w S) H.size)) (hD : va_D A0 (sn_ws Lo w S)) (hS : va_S A0 s.heap H locs) (hA : ∀ q : Nat, s.heap.size ≤ q → A0 q)
    (kk : ∀ (v : Option Value) (S1 : sn_S) (H1 : Heap) (locs1 : List Loc), Qy v S1 → va_P w.1 Lo.2.2.1 (sn_ws Lo w S1) H1 → va_D A0 (sn_ws Lo w S1) → va_S A0 s.heap H1 locs1 → W p l e R s m args below meth c H1 locs1 (cells + mY) (slots + sY) Qf (F0 m (pc + 5) ls (v.toList ++ rest)))
    (kx : ∀ (cl : String) (q : Nat) (S1 : sn_S) (H1 : Heap) (locs1 : List Loc), Ey cl q S1 → va_P w.1 Lo.2.2.1 (sn_ws Lo w S1) H1 → va_D A0 (sn_ws Lo w S1) → va_S A0 s.heap H1 locs1 → (∃ ce : Cell, H1[q]? = some ce ∧ ce.vm = .none ∧ s.vm.findClass cl = some ce.cls) → vx_W p l e R s m args below meth c H1 locs1 (cells + mY) (slots + sY) Qf (F0 m pc ls rest) q) : W p l e R s m args below meth c H locs cells slots Qf (F0 m pc ls stk) := by
  have hF : ∀ q, va_A (sn_ws Lo w S) H.size q → A0 q := by
    intro q h
    rcases h with ⟨k, x, h⟩ | h
    · exact hD.2 k _ h
    · exact hA q (Nat.le_trans hS.1 h)
  intro T hT X
  rcases hr T hT X with ⟨v, st₀, t, T', L, h0, X', hL, e1, e2, ⟨⟨v', S1, hv, hq, hP1, hD1⟩, hFr⟩, st⟩ | ⟨q, st₀, t, T', L, cl, ce, h0, X', hL, e1, e2, ⟨⟨S1, hq, hP1, hD1⟩, hFr⟩, hce, hcv, hcl, st⟩
  · cases hv
    obtain ⟨-, -, k3⟩ := vx_keep h0 e1 hS (fun q _ h => hF q h) hF hL hFr
    obtain ⟨t2, a1, b1⟩ := kk _ S1 T'.heap (locs ++ L) hq (by rw [e1]; exact hP1) (hD1.weaken fun k q _ h => hF _ h) k3 T' rfl X'
    exact ⟨t2, st t2 a1, b1⟩
  · obtain ⟨-, -, k3⟩ := vx_keep h0 e1 hS (fun q _ h => hF q h) hF hL hFr
    obtain ⟨t2, a1, b1⟩ := kx cl q S1 T'.heap (locs ++ L) hq (by rw [e1]; exact hP1) (hD1.weaken fun k q _ h => hF _ h) k3 ⟨ce, by rw [e1]; exact hce, hcv, hcl⟩ T' rfl X'
    exact ⟨t2, st.trans a1, b1⟩
theorem sn_callF (hO : sn_Ok Lo w C own cc nL ret tb nm) {a ci count : Nat} {x : MethodName} {y : MethodName} {by_ : ByteArray} {nY : Nat} {rY : Option FieldType} {rm : Room} {index n c2 s2 : Nat} {Qy : Option Value → sn_S → Prop} {Ey : sn_E} (As : List Value) (hC : sn_CvF Lo own index x y by_ nY rY n ci) (hv : P → sn_Rv Lo w S a ci) (hM : P → sn_Ct Lo w y (ws_ y by_ nY rY) rm (.ref a :: As) S Qy Ey) (hR : rm.frames + 1 ≤ R.frames ∧ 8 + (nY + 11) + rm.locals ≤ R.locals) (hn : As.length = n) (hst : st = As.reverse ++ .ref a :: rest) (hw : (rest.map fun v => v.category).sum ≤ 8) (hb2 : rm.cells ≤ mc ∧ rm.slots ≤ ms ∧ mc - rm.cells = c2 ∧ ms - rm.slots = s2) (hd : decode cc pc = .ok (.invokeinterface index count, 5))
    (kk : P → ∀ (v : Option Value) (S1 : sn_S), Qy v S1 → sn_G Lo w R Q E C c2 s2 (pc + 5) lv (v.toList ++ rest) S1) (kx : P → ∀ (cl : String) (q : Nat) (S1 : sn_S), Ey cl q S1 → sn_X Lo w R Q E C c2 s2 pc lv cl q S1) : P → sn_G Lo w R Q E C mc ms pc lv st S := by
  subst hst
  obtain ⟨p, e, s, m, args, below, meth, c, A0⟩ := C
  intro q H locs ls hP hD hS hl hm
  obtain ⟨hb2a, hb2b, rfl, rfl⟩ := hb2
  have hw1 : R.cells - mc + rm.cells ≤ R.cells - (mc - rm.cells) := by omega
  have hw2 : R.slots - ms + rm.slots ≤ R.slots - (ms - rm.slots) := by omega
  have hm2 : mc - rm.cells ≤ R.cells ∧ ms - rm.slots ≤ R.slots := ⟨by omega, by omega⟩
  obtain ⟨hx, hb, hml, hr, hlk, ho, hts, hK, hA, hX, hX0, htb, hnm⟩ := hO
  obtain ⟨CN, T, N, hT, hN, hci, hd0⟩ := hC
  obtain ⟨q0, fs, hq0⟩ := hv q
  obtain ⟨cB, g1, g2, g3⟩ := va_recv hK hP hci hq0
  obtain ⟨kB, hkB, hnmB⟩ := Vm.findClass_spec g3
  have hrun := vx_runF (cells := R.cells - mc) (slots := R.slots - ms) (locs := locs) (e := e) (args := args) (below := below) (meth := meth) (g := F0 m pc ls (As.reverse ++ .ref a :: rest)) (As := As) (rest := rest) (b := a) (hK.1 ci _ hci).2 ⟨hx, hb, hml, ho, hts⟩ (hM q H.size) (va_cwF n hts hT rfl rfl rfl (hN _ _ _ _ hX0) hd0 hR) ⟨sn_blind hX, ⟨cB, g1, g2, g3⟩, sn_pre hX hX0 hK hP hD hS hA⟩ rfl hn (by rw [← hml]; exact hl.1) rfl (lv_room (pc := pc) (ls := ls) (rest := As.reverse ++ .ref a :: rest) hw) hd ⟨Nat.le_trans hw1 (Nat.sub_le _ _), Nat.le_trans hw2 (Nat.sub_le _ _)⟩
  exact sn_call5 hrun hD hS hA (fun v S1 H1 locs1 hq hP hD hS => W.widen hw1 hw2 (kk q v S1 hq H1 locs1 ls hP hD hS hl hm2)) (fun cl q9 S1 H1 locs1 hq hP hD hS hc => vx_widen hw1 hw2 (kx q cl q9 S1 hq H1 locs1 ls rest hP hD hS hl hm2 hc))
end SNZ
