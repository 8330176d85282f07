/-! THE START: what the tables say, the head of the law, whole_start out of the plain law -/
set_option maxRecDepth 100000
def R_law : String := "SnailPostLaw"
def lw_P (b : Addr) (xs : List Int32) (args : Array Value) (s : State) : Prop := args = #[.ref b] ∧ s.IntsAt b xs ∧ xs.length ≤ 384 ∧ (Jvm.Cond.and given_1 narrow_1).before args s = true
def lw_Q (_ : Array Value) (s : State) (o : Outcome) (t : State) : Prop := o = .returned (some (.int 1)) ∧ Framed s o t [] 1200128 5501098
def lw_Z (below : List Frame) (a : Array Value) (s : State) : State → Prop := fun t => ∃ o, t.status = .running ∧ Ended t below o ∧ lw_Q a s o t
/-- the law's own end, with 1 on the stack, nothing written that was there before, its room as the claim has it -/
theorem lw_ret {p : Program} {l : Launch} {e : Env} {s : State} {m : MethodId} {below : List Frame} {meth : Method} {c : Code} {b : Nat} (hx : p.tables.exec = Jvm.exec) (hb : c.code = code) (hr : meth.sig.returnType = ret) (hlocks : meth.locks = false) {pc : Nat} {H : Heap} {ls : Array Slot} (hdg : decode code pc = .ok (.ireturn, 1)) : W p l e room_1 s m #[Value.ref b] below meth c H [] 1200128 5501098 (lw_Z below #[Value.ref b] s) (F0 m pc ls [.int 1]) := by
  intro T hT X
  obtain ⟨fs, hret, hrun, hended, hW, hframe⟩ := X.leave (v := some (.int 1)) (hlocks := hlocks) (fun h => by rw [hr] at h; cases h)
  have hmeth' : T.vm.method? m = some meth := X.method'
  refine ⟨T.setFrames fs, ?_, .returned (some (.int 1)), hrun, hended, rfl, ⟨_, rfl⟩, hW, hframe⟩
  jvm_step X.here [X.here.top, hx, hb, hdg, hmeth', hr, ret, narrow_b1]
  (try refine ⟨rfl, ?_⟩); (try refine ⟨rfl, ?_⟩)
  first | (intro acts; rw [hret _ acts rfl rfl rfl]) | rw [hret _ _ rfl rfl rfl]
  exact Steps.refl _
/-- what holds at the law's entry: the machine, the code, the tables' words (any of lw_tbl by 'hts w (by decide +kernel)'), the script of L ints xs at the cell b, what the Statement gives of the start (any of its parts by flat_of_before) -/
def lw_At (p : Program) (s : State) (m : MethodId) (meth : Method) (c : Code) (b L : Nat) (xs : Nat → Int32) : Prop :=
  p.tables.exec = Jvm.exec ∧ c.code = code ∧ meth.sig.returnType = ret ∧ c.maxLocals = 4 ∧ s.vm.findClass R_law = some m.cls ∧ (∀ w ∈ lw_tbl, w.before #[Value.ref b] s = true) ∧ va_X b L xs s s.heap ∧ b < s.heap.size ∧ meth.locks = false ∧ (Jvm.Cond.and given_1 narrow_1).before #[Value.ref b] s = true
theorem start_cls {s : State} {b : Nat} (ht : ∀ w ∈ lw_tbl, w.before #[Value.ref b] s = true) : ∃ D : va_G, ∀ (k : Nat) (q : vw_C), clX[k]? = some q → u_Kn s q.1 q.2.1 q.2.2 (D.1 k) (D.2 k) := by
  have h : ∀ k : Nat, ∃ p : ClassId × (Nat → Nat), ∀ q : vw_C, clX[k]? = some q → u_Kn s q.1 q.2.1 q.2.2 p.1 p.2 := by
    intro k
    match k with
    | 0 => obtain ⟨c, i, h⟩ := u_known (C := RX0) (T := TX0) (N := 28) ht (fun w h => lw_all_tbl (in_X0 w h)) (ht _ (lw_all_tbl q141)); exact ⟨(c, i), fun q hq => by cases hq; exact h⟩
    | 1 => obtain ⟨c, i, h⟩ := u_known (C := RX1) (T := TX1) (N := 12) ht (fun w h => lw_all_tbl (in_X1 w h)) (ht _ (lw_all_tbl q149)); exact ⟨(c, i), fun q hq => by cases hq; exact h⟩
    | 2 => obtain ⟨c, i, h⟩ := u_known (C := RX2) (T := TX2) (N := 2) ht (fun w h => lw_all_tbl (in_X2 w h)) (ht _ (lw_all_tbl q247)); exact ⟨(c, i), fun q hq => by cases hq; exact h⟩
    | 3 => obtain ⟨c, i, h⟩ := u_known (C := RX3) (T := TX3) (N := 6) ht (fun w h => lw_all_tbl (in_X3 w h)) (ht _ (lw_all_tbl q253)); exact ⟨(c, i), fun q hq => by cases hq; exact h⟩
    | 4 => obtain ⟨c, i, h⟩ := u_known (C := RX4) (T := TX4) (N := 6) ht (fun w h => lw_all_tbl (in_X4 w h)) (ht _ (lw_all_tbl q325)); exact ⟨(c, i), fun q hq => by cases hq; exact h⟩
    | 5 => obtain ⟨c, i, h⟩ := u_known (C := RX5) (T := TX5) (N := 12) ht (fun w h => lw_all_tbl (in_X5 w h)) (ht _ (lw_all_tbl q357)); exact ⟨(c, i), fun q hq => by cases hq; exact h⟩
    | 6 => obtain ⟨c, i, h⟩ := u_known (C := RX6) (T := TX6) (N := 1) ht (fun w h => lw_all_tbl (in_X6 w h)) (ht _ (lw_all_tbl q409)); exact ⟨(c, i), fun q hq => by cases hq; exact h⟩
    | 7 => obtain ⟨c, i, h⟩ := u_known (C := RX7) (T := TX7) (N := 6) ht (fun w h => lw_all_tbl (in_X7 w h)) (ht _ (lw_all_tbl q419)); exact ⟨(c, i), fun q hq => by cases hq; exact h⟩
    | 8 => obtain ⟨c, i, h⟩ := u_known (C := RX8) (T := TX8) (N := 8) ht (fun w h => lw_all_tbl (in_X8 w h)) (ht _ (lw_all_tbl q446)); exact ⟨(c, i), fun q hq => by cases hq; exact h⟩
    | 9 => obtain ⟨c, i, h⟩ := u_known (C := RJ2) (T := TJ2) (N := 3) ht (fun w h => lw_all_tbl (in_J2 w h)) (ht _ (lw_all_tbl q155)); exact ⟨(c, i), fun q hq => by cases hq; exact h⟩
    | 10 => obtain ⟨c, i, h⟩ := u_known (C := RX10) (T := TX10) (N := 7) ht (fun w h => lw_all_tbl (in_X10 w h)) (ht _ (lw_all_tbl q771)); exact ⟨(c, i), fun q hq => by cases hq; exact h⟩
    | 11 => obtain ⟨c, i, h⟩ := u_known (C := RX11) (T := TX11) (N := 7) ht (fun w h => lw_all_tbl (in_X11 w h)) (ht _ (lw_all_tbl q874)); exact ⟨(c, i), fun q hq => by cases hq; exact h⟩
    | 12 => obtain ⟨c, i, h⟩ := u_known (C := RX12) (T := TX12) (N := 3) ht (fun w h => lw_all_tbl (in_X12 w h)) (ht _ (lw_all_tbl q893)); exact ⟨(c, i), fun q hq => by cases hq; exact h⟩
    | 13 => obtain ⟨c, i, h⟩ := u_known (C := RX14) (T := TX14) (N := 1) ht (fun w h => lw_all_tbl (in_X14 w h)) (ht _ (lw_all_tbl q942)); exact ⟨(c, i), fun q hq => by cases hq; exact h⟩
    | 14 => obtain ⟨c, i, h⟩ := u_known (C := RX15) (T := TX15) (N := 1) ht (fun w h => lw_all_tbl (in_X15 w h)) (ht _ (lw_all_tbl q973)); exact ⟨(c, i), fun q hq => by cases hq; exact h⟩
    | 15 => obtain ⟨c, i, h⟩ := u_known (C := RX16) (T := TX16) (N := 3) ht (fun w h => lw_all_tbl (in_X16 w h)) (ht _ (lw_all_tbl q985)); exact ⟨(c, i), fun q hq => by cases hq; exact h⟩
    | 16 => obtain ⟨c, i, h⟩ := u_known (C := RX18) (T := TX18) (N := 3) ht (fun w h => lw_all_tbl (in_X18 w h)) (ht _ (lw_all_tbl q1026)); exact ⟨(c, i), fun q hq => by cases hq; exact h⟩
    | 17 => obtain ⟨c, i, h⟩ := u_known (C := RX19) (T := TX19) (N := 1) ht (fun w h => lw_all_tbl (in_X19 w h)) (ht _ (lw_all_tbl q1045)); exact ⟨(c, i), fun q hq => by cases hq; exact h⟩
    | 18 => obtain ⟨c, i, h⟩ := u_known (C := RX20) (T := TX20) (N := 2) ht (fun w h => lw_all_tbl (in_X20 w h)) (ht _ (lw_all_tbl q1056)); exact ⟨(c, i), fun q hq => by cases hq; exact h⟩
    | 19 => obtain ⟨c, i, h⟩ := u_known (C := RX21) (T := TX21) (N := 1) ht (fun w h => lw_all_tbl (in_X21 w h)) (ht _ (lw_all_tbl q1086)); exact ⟨(c, i), fun q hq => by cases hq; exact h⟩
    | 20 => obtain ⟨c, i, h⟩ := u_known (C := RX9) (T := TX9) (N := 60) ht (fun w h => lw_all_tbl (in_X9 w h)) (ht _ (lw_all_tbl q1435)); exact ⟨(c, i), fun q hq => by cases hq; exact h⟩
    | k + 21 => obtain ⟨c, i, h⟩ := u_known (C := RX0) (T := TX0) (N := 28) ht (fun w h => lw_all_tbl (in_X0 w h)) (ht _ (lw_all_tbl q141)); exact ⟨(c, i), fun q hq => absurd (List.getElem?_eq_some_iff.mp hq).1 (by simp [clX])⟩
  obtain ⟨f, hf⟩ := Classical.axiomOfChoice h
  exact ⟨(fun k => (f k).1, fun k => (f k).2), hf⟩
theorem start_prim {s : State} {args : Array Value} {ty : FieldType} (hp : ∀ C, ty ≠ .object C) (h : (Cond.arrayClass ty).before args s = true) (hk : ∀ (c : ClassId) (k : Class) (comp : ClassId), s.vm.classes[c]? = some k → k.kind = .array comp ty → ArrOfT s c ty) : ∃ c : ClassId, ArrOfT s c ty ∧ va_RA s c ty := by
  obtain ⟨c, k, comp, h1, h2, h3⟩ := Cond.arrayClass_spec h
  refine ⟨c, hk c k comp h2 h3, ?_⟩
  cases ty with
  | object C => exact absurd rfl (hp C)
  | _ => exact h1
theorem start_obj {s : State} {args : Array Value} {C : String} (h : (Cond.arrayOver (.object C)).before args s = true) : ∃ c : ClassId, ArrOfT s c (.object C) ∧ va_RA s c (.object C) := by
  obtain ⟨comp, c, k, h1, -, h2, h3, h4⟩ := Cond.arrayOver_spec h
  exact ⟨c, fun N z => ⟨(fun k h => by cases h), k, h2, comp, h3⟩, k, comp, h2, h3, h1, h4⟩
theorem start_tys {s : State} {b : Nat} (ht : ∀ w ∈ lw_tbl, w.before #[Value.ref b] s = true) : ∃ dA : Nat → ClassId, ∀ (k : Nat) (ty : FieldType), tyXl[k]? = some ty → ArrOfT s (dA k) ty ∧ va_RA s (dA k) ty := by
  have h : ∀ k : Nat, ∃ c : ClassId, ∀ ty : FieldType, tyXl[k]? = some ty → ArrOfT s c ty ∧ va_RA s c ty := by
    intro k
    match k with
    | 0 => obtain ⟨c, h⟩ := start_prim (ty := .int) (fun C h => by cases h) (ht _ (lw_all_tbl q182)) (fun c k comp h2 h3 N z => ⟨(fun k h => by cases h), k, h2, comp, h3⟩); exact ⟨c, fun q hq => by cases hq; exact h⟩
    | 1 => obtain ⟨c, h⟩ := start_prim (ty := .boolean) (fun C h => by cases h) (ht _ (lw_all_tbl q183)) (fun c k comp h2 h3 N z => ⟨(fun k h => by cases h), k, h2, comp, h3⟩); exact ⟨c, fun q hq => by cases hq; exact h⟩
    | 2 => obtain ⟨c, h⟩ := start_prim (ty := .byte) (fun C h => by cases h) (ht _ (lw_all_tbl q312)) (fun c k comp h2 h3 N z => ⟨(fun k h => by cases h), k, h2, comp, h3⟩); exact ⟨c, fun q hq => by cases hq; exact h⟩
    | 3 => obtain ⟨c, h⟩ := start_prim (ty := .long) (fun C h => by cases h) (ht _ (lw_all_tbl q323)) (fun c k comp h2 h3 N z => ⟨(fun k h => by cases h), k, h2, comp, h3⟩); exact ⟨c, fun q hq => by cases hq; exact h⟩
    | 4 => obtain ⟨c, h⟩ := start_obj (C := "java/lang/Object") (ht _ q167); exact ⟨c, fun q hq => by cases hq; exact h⟩
    | 5 => obtain ⟨c, h⟩ := start_obj (C := "SnailPost$State") (ht _ q245); exact ⟨c, fun q hq => by cases hq; exact h⟩
    | 6 => obtain ⟨c, h⟩ := start_obj (C := "SnailPost$Walk") (ht _ q363); exact ⟨c, fun q hq => by cases hq; exact h⟩
    | k + 7 => obtain ⟨c, h⟩ := start_prim (ty := .int) (fun C h => by cases h) (ht _ (lw_all_tbl q182)) (fun c k comp h2 h3 N z => ⟨(fun k h => by cases h), k, h2, comp, h3⟩); exact ⟨c, fun q hq => absurd (List.getElem?_eq_some_iff.mp hq).1 (by simp [tyXl])⟩
  obtain ⟨f, hf⟩ := Classical.axiomOfChoice h
  exact ⟨f, hf⟩
