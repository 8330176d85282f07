/-! THE FRAME RULE: a contract over a world of the layout Lo1 stands beside further cells; all lies in one pool (LoW). -/
theorem va_P_mem {D : va_G} {cl : List vw_C} {ws : va_W} {H : Heap} : va_P D cl ws H ↔ ∀ q ∈ ws, va_at D cl q H := by
  constructor
  · intro h q hq
    obtain ⟨k, hk⟩ := List.getElem?_of_mem hq
    exact h k q hk
  · intro h k q hk
    exact h q (List.mem_of_getElem? hk)
theorem va_D_mem {A : Nat → Prop} {ws : va_W} : va_D A ws ↔ (ws.map Prod.fst).Nodup ∧ ∀ q ∈ ws, A q.1 := by
  constructor
  · intro h
    refine ⟨?_, fun q hq => ?_⟩
    · rw [List.Nodup, List.pairwise_map, List.pairwise_iff_getElem]
      intro i j hi hj hij he
      have := h.1 i j _ _ (List.getElem?_eq_getElem hi) (List.getElem?_eq_getElem hj) he
      omega
    · obtain ⟨k, hk⟩ := List.getElem?_of_mem hq
      exact h.2 k q hk
  · rintro ⟨h1, h2⟩
    refine ⟨?_, fun k q hk => h2 q (List.mem_of_getElem? hk)⟩
    rw [List.Nodup, List.pairwise_map, List.pairwise_iff_getElem] at h1
    intro i j p q hi hj he
    obtain ⟨hi1, rfl⟩ := List.getElem?_eq_some_iff.mp hi
    obtain ⟨hj1, rfl⟩ := List.getElem?_eq_some_iff.mp hj
    rcases Nat.lt_trichotomy i j with h | h | h
    · exact absurd he (h1 i j hi1 hj1 h)
    · exact h
    · exact absurd he.symm (h1 j i hj1 hi1 h)
theorem va_A_mem {ws : va_W} {sz q : Nat} : va_A ws sz q ↔ q ∈ ws.map Prod.fst ∨ sz ≤ q := by
  constructor
  · rintro (⟨k, e, h⟩ | h)
    · exact Or.inl (List.mem_map.mpr ⟨_, List.mem_of_getElem? h, rfl⟩)
    · exact Or.inr h
  · rintro (h | h)
    · obtain ⟨⟨a, e⟩, hm, rfl⟩ := List.mem_map.mp h
      obtain ⟨k, hk⟩ := List.getElem?_of_mem hm
      exact Or.inl ⟨k, e, hk⟩
    · exact Or.inr h
def va_lk (ws : va_W) (a : Nat) : va_E := ((ws.find? (fun q => q.1 == a)).map Prod.snd).getD (.inr (0, []))
theorem va_lk_at {ws : va_W} (h : (ws.map Prod.fst).Nodup) : ∀ q ∈ ws, va_lk ws q.1 = q.2 := by
  induction ws with
  | nil => intro q hq; cases hq
  | cons x ws ih =>
    rw [List.map_cons, List.nodup_cons] at h
    intro q hq
    rcases List.mem_cons.mp hq with rfl | hq
    · simp [va_lk]
    · have hne : ¬ x.1 = q.1 := fun e => h.1 (e ▸ List.mem_map.mpr ⟨q, hq, rfl⟩)
      have := ih h.2 q hq
      simpa [va_lk, List.find?_cons, hne] using this
theorem va_pl_lk {ws : va_W} (h : (ws.map Prod.fst).Nodup) : va_pl (ws.map Prod.fst) (va_lk ws) = ws := by
  rw [va_pl, List.map_map]
  conv => rhs; rw [← List.map_id ws]
  apply List.map_congr_left
  intro q hq
  show (q.1, va_lk ws q.1) = q
  rw [va_lk_at h q hq]
def sn_pl (ws : va_W) : sn_S := (fun _ _ => 0, fun _ _ => 0, fun _ _ => none, ws.map Prod.fst, va_lk ws)
/-- all in the pool -/
def LoW (X : sn_W → (Nat → Prop) → State → Heap → Prop) : sn_Lo := (0, kdX, clX, tyXl, X)
theorem LoW_ws {X : sn_W → (Nat → Prop) → State → Heap → Prop} (w : sn_W) (S : sn_S) : sn_ws (LoW X) w S = va_pl S.2.2.2.1 S.2.2.2.2 := rfl
theorem LoW_ads {X : sn_W → (Nat → Prop) → State → Heap → Prop} (w : sn_W) (ws : va_W) : (sn_ws (LoW X) w (sn_pl ws)).map Prod.fst = ws.map Prod.fst := by
  rw [LoW_ws, va_pl, List.map_map]
  show (ws.map Prod.fst).map _ = _
  conv => rhs; rw [← List.map_id (ws.map Prod.fst)]
  rfl
theorem LoW_pl {X : sn_W → (Nat → Prop) → State → Heap → Prop} (w : sn_W) {ws : va_W} (h : (ws.map Prod.fst).Nodup) : sn_ws (LoW X) w (sn_pl ws) = ws := by
  rw [LoW_ws]
  exact va_pl_lk h
theorem sn_frame {X : sn_W → (Nat → Prop) → State → Heap → Prop} {Lo1 : sn_Lo} {w1 w : sn_W} (hcl : Lo1.2.2.1 = clX) (hty : Lo1.2.2.2.1 = tyXl) (hw1 : w1.1 = w.1) (hw2 : w1.2.1 = w.2.1) (hw3 : w1.2.2.2.1 = w.2.2.2.1) (hX : ∀ A U H, X w A U H → Lo1.2.2.2.2 w1 A U H) (hX1 : sn_XO (Lo1.2.2.2.2 w1)) {y : MethodName} {ws : List Cond} {rm : Room} {vs : List Value} {S : sn_S} {Q : Option Value → sn_S → Prop} {E : sn_E} (rs : va_W) (arr : sn_S → va_W) (harr : ∀ S1, (arr S1).Perm (sn_ws Lo1 w1 S1 ++ rs)) (h : sn_Ct Lo1 w1 y ws rm vs S Q E) :
    sn_Ct (LoW X) w y ws rm vs (sn_pl (arr S)) (fun v S2 => ∃ S1, Q v S1 ∧ S2 = sn_pl (arr S1)) (fun cl q S2 => ∃ S1, E cl q S1 ∧ S2 = sn_pl (arr S1)) := by
  have hcl2 : (LoW X).2.2.1 = Lo1.2.2.1 := hcl.symm
  have hty2 : sn_ty (LoW X) w = sn_ty Lo1 w1 := by
    unfold sn_ty
    rw [hw2, hty]
    rfl
  intro sz
  have h := h sz
  unfold vx_Met MetFree at h ⊢
  rw [hw3] at h
  intro p e ha hc hk s m args below hf happ hP hK0
  obtain ⟨hargs, hsz, hP2, hK2, hD2, hX2⟩ := hP
  have hnd : ((arr S).map Prod.fst).Nodup := by
    have := (va_D_mem.mp hD2).1
    rwa [LoW_ads] at this
  rw [LoW_pl w hnd] at hP2 hD2 hX2 ⊢
  have hsub : ∀ q ∈ sn_ws Lo1 w1 S, q ∈ arr S := fun q hq => (harr S).symm.subset (List.mem_append_left _ hq)
  have hrs : ∀ q ∈ rs, q ∈ arr S := fun q hq => (harr S).symm.subset (List.mem_append_right _ hq)
  have hnd2 : ((sn_ws Lo1 w1 S ++ rs).map Prod.fst).Nodup := ((harr S).map Prod.fst).nodup_iff.mp hnd
  rw [List.map_append, List.nodup_append] at hnd2
  have hP2' := va_P_mem.mp hP2
  have hP1 : va_P w1.1 Lo1.2.2.1 (sn_ws Lo1 w1 S) s.heap := va_P_mem.mpr (fun q hq => by rw [hw1, ← hcl2]; exact hP2' q (hsub q hq))
  have hD1 : va_D (fun _ => True) (sn_ws Lo1 w1 S) := va_D_mem.mpr ⟨hnd2.1, fun _ _ => trivial⟩
  have hA12 : ∀ q, va_A (sn_ws Lo1 w1 S) sz q → va_A (arr S) sz q := by
    intro q hq
    rcases va_A_mem.mp hq with h | h
    · obtain ⟨x, hx, rfl⟩ := List.mem_map.mp h
      exact va_A_mem.mpr (Or.inl (List.mem_map.mpr ⟨x, hsub x hx, rfl⟩))
    · exact Or.inr h
  have hK1 : va_K w1.1 Lo1.2.2.1 (sn_ty Lo1 w1) s := by rw [hw1, ← hcl2, ← hty2]; exact hK2
  have hX1' : Lo1.2.2.2.2 w1 (va_A (sn_ws Lo1 w1 S) sz) s s.heap := hX1.2.2 _ _ _ _ hA12 (hX _ _ _ hX2)
  obtain ⟨n, o, g1, g2, g3, g4⟩ := h p e ha hc hk s m args below hf happ ⟨hargs, hsz, hP1, hK1, hD1, hX1'⟩ hK0
  refine ⟨n, o, g1, g2, g3, ?_⟩
  -- the rest of the cells
  have hrest : ∀ (t : State) (S1 : sn_S), va_F (va_A (sn_ws Lo1 w1 S) sz) s t → va_P w1.1 Lo1.2.2.1 (sn_ws Lo1 w1 S1) t.heap → va_D (va_A (sn_ws Lo1 w1 S) sz) (sn_ws Lo1 w1 S1) → va_P w.1 (LoW X).2.2.1 (sn_ws (LoW X) w (sn_pl (arr S1))) t.heap ∧ va_D (va_A (arr S) sz) (sn_ws (LoW X) w (sn_pl (arr S1))) := by
    intro t S1 hF hPt hDt
    have hlt : ∀ q ∈ rs, q.1 < s.heap.size := by
      intro q hq
      have hat := hP2' q (hrs q hq)
      obtain ⟨a, x⟩ := q
      cases x with
      | inl x => exact (Array.getElem?_eq_some_iff.mp hat).1
      | inr x =>
        obtain ⟨r, -, cell, hc, -⟩ := hat
        exact (Array.getElem?_eq_some_iff.mp hc).1
    have hnA : ∀ q ∈ rs, ¬ va_A (sn_ws Lo1 w1 S) sz q.1 := by
      intro q hq hA
      rcases va_A_mem.mp hA with h | h
      · exact hnd2.2.2 _ h _ (List.mem_map.mpr ⟨q, hq, rfl⟩) rfl
      · have := hlt q hq
        omega
    have hsame : ∀ q ∈ rs, t.heap[q.1]? = s.heap[q.1]? := fun q hq => hF.2 q.1 (hlt q hq) (hnA q hq)
    have hDm := va_D_mem.mp hDt
    have hnd1 : ((arr S1).map Prod.fst).Nodup := by
      refine ((harr S1).map Prod.fst).nodup_iff.mpr ?_
      rw [List.map_append, List.nodup_append]
      refine ⟨hDm.1, hnd2.2.1, ?_⟩
      intro a ha b hb hab
      subst hab
      obtain ⟨x, hx, rfl⟩ := List.mem_map.mp ha
      obtain ⟨z, hz, hze⟩ := List.mem_map.mp hb
      exact hnA z hz (by rw [hze]; exact hDm.2 x hx)
    rw [LoW_pl w hnd1]
    have hPm := va_P_mem.mp hPt
    constructor
    · refine va_P_mem.mpr (fun q hq => ?_)
      rcases List.mem_append.mp ((harr S1).subset hq) with h | h
      · have := hPm q h
        rw [hw1] at this
        exact hcl2 ▸ this
      · have hat := hP2' q (hrs q h)
        have he := hsame q h
        obtain ⟨a, x⟩ := q
        cases x with
        | inl x =>
          show t.heap[a]? = _
          rw [he]
          exact hat
        | inr x =>
          obtain ⟨r, h1, cell, hc, h2⟩ := hat
          exact ⟨r, h1, cell, by rw [he]; exact hc, h2⟩
    · refine va_D_mem.mpr ⟨hnd1, fun q hq => ?_⟩
      rcases List.mem_append.mp ((harr S1).subset hq) with h | h
      · exact hA12 _ (hDm.2 q h)
      · exact va_A_mem.mpr (Or.inl (List.mem_map.mpr ⟨q, hrs q h, rfl⟩))
  have hFF : ∀ t : State, va_F (va_A (sn_ws Lo1 w1 S) sz) s t → va_F (va_A (arr S) sz) s t := fun t hF => ⟨hF.1, fun q h1 h2 => hF.2 q h1 (fun h => h2 (hA12 q h))⟩
  rcases g4 with ⟨⟨⟨v, S1, hv, hq, hPt, hDt⟩, hF⟩, L, hL, hfr⟩ | ⟨q, hq, cl, ce, L, ⟨⟨S1, hE, hPt, hDt⟩, hF⟩, h1, h2, h3, h4, h5, h6⟩
  · obtain ⟨a1, a2⟩ := hrest _ S1 hF hPt hDt
    exact Or.inl ⟨⟨⟨v, _, hv, ⟨S1, hq, rfl⟩, a1, a2⟩, hFF _ hF⟩, L, hL, fun z hz => hA12 _ (hfr z hz)⟩
  · obtain ⟨a1, a2⟩ := hrest _ S1 hF hPt hDt
    exact Or.inr ⟨q, hq, cl, ce, L, ⟨⟨_, ⟨S1, hE, rfl⟩, a1, a2⟩, hFF _ hF⟩, h1, h2, h3, h4, h5, fun z hz => hA12 _ (h6 z hz)⟩
/-- the pool in another order -/
theorem sn_perm {X : sn_W → (Nat → Prop) → State → Heap → Prop} {w : sn_W} {R : Room} {Q : Option Value → sn_S → Prop} {E : sn_E} {C : sn_C} {mc ms pc : Nat} {lv : List (Nat × Value)} {st : List Value} {S : sn_S} (ws : va_W) (hp : (va_pl S.2.2.2.1 S.2.2.2.2).Perm ws) (k : sn_G (LoW X) w R Q E C mc ms pc lv st (sn_pl ws)) : sn_G (LoW X) w R Q E C mc ms pc lv st S := by
  obtain ⟨p, e, s, m, args, below, meth, c, A0⟩ := C
  intro H locs ls hP hD hS hl hm
  have hDm := va_D_mem.mp hD
  rw [LoW_ws] at hDm
  have hnd : (ws.map Prod.fst).Nodup := (hp.map Prod.fst).nodup_iff.mp hDm.1
  refine k H locs ls ?_ ?_ hS hl hm
  · rw [LoW_pl w hnd]
    exact va_P_mem.mpr (fun q hq => va_P_mem.mp hP q (by rw [LoW_ws]; exact hp.symm.subset hq))
  · rw [LoW_pl w hnd]
    exact va_D_mem.mpr ⟨hnd, fun q hq => hDm.2 q (hp.symm.subset hq)⟩
/-! THE LAW'S OWN WORLD -/
/-- what is known besides, and the script -/
def XL (b L : Nat) (xs : Nat → Int32) (w : sn_W) (A : Nat → Prop) (U : State) (H : Heap) : Prop := XX w A U H ∧ va_X b L xs U H ∧ b < H.size ∧ ¬ A b
theorem XL_O (b L : Nat) (xs : Nat → Int32) (w : sn_W) : sn_XO (XL b L xs w) := by
  refine ⟨?_, ?_, ?_⟩
  · rintro A s U H hW ⟨h1, h2, h3, h4⟩
    exact ⟨(XX_O w).1 A s U H hW h1, h2.moved hW.alike, h3, h4⟩
  · rintro A U H H1 hq ⟨h1, h2, h3, h4⟩
    have he := hq b h3 h4
    refine ⟨(XX_O w).2.1 A U H H1 hq h1, h2.kept he, ?_, h4⟩
    obtain ⟨scr, hs, -⟩ := h2
    rw [hs] at he
    exact (Array.getElem?_eq_some_iff.mp he).1
  · rintro A B U H hAB ⟨h1, h2, h3, h4⟩
    exact ⟨(XX_O w).2.2 A B U H hAB h1, h2, h3, fun h => h4 (hAB b h)⟩
abbrev LoL (b L : Nat) (xs : Nat → Int32) : sn_Lo := LoW (XL b L xs)
theorem sn_weakX {X X2 : sn_W → (Nat → Prop) → State → Heap → Prop} {w : sn_W} (hX : ∀ A U H, X2 w A U H → X w A U H) {y : MethodName} {ws : List Cond} {rm : Room} {vs : List Value} {S : sn_S} {Q : Option Value → sn_S → Prop} {E : sn_E} (h : sn_Ct (LoW X) w y ws rm vs S Q E) : sn_Ct (LoW X2) w y ws rm vs S Q E := by
  intro sz p e ha hc hk s m args below hf happ hP hK0
  exact h sz p e ha hc hk s m args below hf happ ⟨hP.1, hP.2.1, hP.2.2.1, hP.2.2.2.1, hP.2.2.2.2.1, hX _ _ _ hP.2.2.2.2.2⟩ hK0
def sn_two (wX wM : sn_W) (SX SM : sn_S) : sn_S := sn_pl (sn_ws LoX wX SX ++ sn_ws LoM wM SM)
/-- the worlds of the two have the law's classes, arrays and launch -/
def sn_wok (w w1 : sn_W) : Prop := w1.1 = w.1 ∧ w1.2.1 = w.2.1 ∧ w1.2.2.2.1 = w.2.2.2.1 ∧ w1.2.2.2.2 = w.2.2.2.2
theorem XX_ok {w w1 : sn_W} (h : sn_wok w w1) {A : Nat → Prop} {U : State} {H : Heap} (hx : XX w A U H) : XX w1 A U H := by
  obtain ⟨a, b, c, d, e⟩ := w
  obtain ⟨a1, b1, c1, d1, e1⟩ := w1
  obtain ⟨h1, h2, h3, h4⟩ := h
  simp only at h1 h2 h3 h4
  subst h1 h2 h3 h4
  exact hx
section SNL
variable {b L : Nat} {xs : Nat → Int32} {w wX wM : sn_W} {R : Room} {Q : Option Value → sn_S → Prop} {E : sn_E} {C : sn_C} {own nm : String} {cc : ByteArray} {nL : Nat} {ret : Option FieldType} {tb : List ExceptionTableEntry} {mc ms pc : Nat} {lv lv' : List (Nat × Value)} {rest st : List Value} {S SX SM : sn_S} {P A B : Prop}
theorem sn_hnd {X : sn_W → (Nat → Prop) → State → Heap → Prop} (k : S.2.2.2.1.Nodup → sn_G (LoW X) w R Q E C mc ms pc lv st S) : sn_G (LoW X) w R Q E C mc ms pc lv st S := by
  obtain ⟨p, e, s, m, args, below, meth, c, A0⟩ := C
  intro H locs ls hP hD hS hl hm
  have hDm := (va_D_mem.mp hD).1
  rw [LoW_ws, va_pl, List.map_map] at hDm
  have he : S.2.2.2.1.map (Prod.fst ∘ fun a => (a, S.2.2.2.2 a)) = S.2.2.2.1 := by
    conv => rhs; rw [← List.map_id S.2.2.2.1]
    rfl
  rw [he] at hDm
  exact k hDm H locs ls hP hD hS hl hm
theorem sn_sld (hO : sn_Ok (LoL b L xs) w C own cc nL ret tb nm) {i : Int32} (hd : decode cc pc = .ok (.iaload, 1)) (k : P → sn_G (LoL b L xs) w R Q E C mc ms (pc + 1) lv (.int (xs i.toNatClampNeg) :: rest) S) : (vp_in i L ∧ P) → sn_G (LoL b L xs) w R Q E C mc ms pc lv (.int i :: .ref b :: rest) S := by
  obtain ⟨p, e, s, m, args, below, meth, c, A0⟩ := C
  intro q H locs ls hP hD hS hl hm
  obtain ⟨h1, h2, h3, h4⟩ := hO.2.2.2.2.2.2.2.2.2.2.1
  exact va_sld hO.1 hO.2.1 h2 h3 h4 hS q.1 hd (k q.2 H locs ls hP hD hS hl hm)
theorem sn_slen (hO : sn_Ok (LoL b L xs) w C own cc nL ret tb nm) (hd : decode cc pc = .ok (.arraylength, 1)) (k : P → sn_G (LoL b L xs) w R Q E C mc ms (pc + 1) lv (.int (Int32.ofNat L) :: rest) S) : P → sn_G (LoL b L xs) w R Q E C mc ms pc lv (.ref b :: rest) S := by
  obtain ⟨p, e, s, m, args, below, meth, c, A0⟩ := C
  intro q H locs ls hP hD hS hl hm
  obtain ⟨h1, h2, h3, h4⟩ := hO.2.2.2.2.2.2.2.2.2.2.1
  exact va_slen hO.1 hO.2.1 h2 h3 h4 hS hd (k q H locs ls hP hD hS hl hm)
theorem sn_twoX (hnd : (sn_two wX wM SX SM).2.2.2.1.Nodup) : sn_Rv (LoL b L xs) w (sn_two wX wM SX SM) (wX.2.2.1 0) 0 := by
  have hnd : ((sn_ws LoX wX SX ++ sn_ws LoM wM SM).map Prod.fst).Nodup := hnd
  refine ⟨0, sn_fs wX.2.2.1 SX 0 csX0, ?_⟩
  show (sn_ws (LoW (XL b L xs)) w (sn_pl (sn_ws LoX wX SX ++ sn_ws LoM wM SM)))[0]? = _
  rw [LoW_pl w hnd, List.getElem?_append_left (by rw [sn_ws, List.length_append, sn_fx_len]; exact Nat.lt_of_lt_of_le (by decide) (Nat.le_add_right _ _))]
  exact sn_ws_get (Lo := LoX) wX SX (k := 0) (kd := .inl (0, csX0)) (by decide) rfl
theorem sn_twoM (hnd : (sn_two wX wM SX SM).2.2.2.1.Nodup) : sn_Rv (LoL b L xs) w (sn_two wX wM SX SM) (wM.2.2.1 0) 20 := by
  have hnd : ((sn_ws LoX wX SX ++ sn_ws LoM wM SM).map Prod.fst).Nodup := hnd
  refine ⟨(sn_ws LoX wX SX).length, sn_fs wM.2.2.1 SM 0 csM, ?_⟩
  show (sn_ws (LoW (XL b L xs)) w (sn_pl (sn_ws LoX wX SX ++ sn_ws LoM wM SM)))[(sn_ws LoX wX SX).length]? = _
  rw [LoW_pl w hnd, List.getElem?_append_right (Nat.le_refl _), Nat.sub_self]
  exact sn_ws_get (Lo := LoM) wM SM (k := 0) (kd := .inl (20, csM)) (by decide) rfl
theorem sn_lcX (hO : sn_Ok (LoL b L xs) w C own cc nL ret tb nm) (hwX : sn_wok w wX) {y : MethodName} {by_ : ByteArray} {nY : Nat} {rY : Option FieldType} {rm : Room} {index n c2 s2 : Nat} {Qy : Option Value → sn_S → Prop} (As : List Value) (hC : sn_Cv (LoL b L xs) own index y by_ nY rY n 0) (hM : P → sn_Ct LoX wX y (ws_ y by_ nY rY) rm (.ref (wX.2.2.1 0) :: As) SX Qy sn_noE) (hR : rm.frames + 1 ≤ R.frames ∧ 8 + (nY + 11) + rm.locals ≤ R.locals) (hn : As.length = n) (hst : st = As.reverse ++ .ref (wX.2.2.1 0) :: rest) (hw : (rest.map fun v => v.category).sum ≤ 8) (hb2 : rm.cells ≤ mc ∧ rm.slots ≤ ms ∧ mc - rm.cells = c2 ∧ ms - rm.slots = s2) (hd : decode cc pc = .ok (.invokevirtual index, 3))
    (kk : P → ∀ (v : Option Value) (S1 : sn_S), Qy v S1 → sn_G (LoL b L xs) w R Q E C c2 s2 (pc + 3) lv (v.toList ++ rest) (sn_two wX wM S1 SM)) : P → sn_G (LoL b L xs) w R Q E C mc ms pc lv st (sn_two wX wM SX SM) := by
  intro q
  refine sn_hnd (fun hnd => ?_)
  refine sn_callV (P := P) hO As hC (fun _ => sn_twoX hnd) (fun q => sn_frame rfl rfl hwX.1 hwX.2.1 hwX.2.2.1 (fun A U H h => XX_ok hwX h.1) (XX_O wX) (sn_ws LoM wM SM) (fun S1 => sn_ws LoX wX S1 ++ sn_ws LoM wM SM) (fun _ => List.Perm.refl _) (hM q)) hR hn hst hw hb2 hd (fun q v S2 h => ?_) (fun _ cl q0 S2 h => ?_) q
  · obtain ⟨S1, h1, rfl⟩ := h
    exact kk q v S1 h1
  · obtain ⟨S1, h1, -⟩ := h
    exact h1.elim
theorem sn_lcXW (hO : sn_Ok (LoL b L xs) w C own cc nL ret tb nm) (hwX : sn_wok w wX) {y : MethodName} {by_ : ByteArray} {nY : Nat} {rY : Option FieldType} {hh : List (Nat × Nat × Nat × Nat)} {rm : Room} {index n c2 s2 : Nat} {Qy : Option Value → sn_S → Prop} (As : List Value) (hC : sn_CvW (LoL b L xs) own index y by_ nY rY hh n 0) (hM : P → sn_Ct LoX wX y (wsW_ y by_ nY rY hh) rm (.ref (wX.2.2.1 0) :: As) SX Qy sn_noE) (hR : rm.frames + 1 ≤ R.frames ∧ 8 + (nY + 11) + rm.locals ≤ R.locals) (hn : As.length = n) (hst : st = As.reverse ++ .ref (wX.2.2.1 0) :: rest) (hw : (rest.map fun v => v.category).sum ≤ 8) (hb2 : rm.cells ≤ mc ∧ rm.slots ≤ ms ∧ mc - rm.cells = c2 ∧ ms - rm.slots = s2) (hd : decode cc pc = .ok (.invokevirtual index, 3))
    (kk : P → ∀ (v : Option Value) (S1 : sn_S), Qy v S1 → sn_G (LoL b L xs) w R Q E C c2 s2 (pc + 3) lv (v.toList ++ rest) (sn_two wX wM S1 SM)) : P → sn_G (LoL b L xs) w R Q E C mc ms pc lv st (sn_two wX wM SX SM) := by
  intro q
  refine sn_hnd (fun hnd => ?_)
  refine sn_callVW (P := P) hO As hC (fun _ => sn_twoX hnd) (fun q => sn_frame rfl rfl hwX.1 hwX.2.1 hwX.2.2.1 (fun A U H h => XX_ok hwX h.1) (XX_O wX) (sn_ws LoM wM SM) (fun S1 => sn_ws LoX wX S1 ++ sn_ws LoM wM SM) (fun _ => List.Perm.refl _) (hM q)) hR hn hst hw hb2 hd (fun q v S2 h => ?_) (fun _ cl q0 S2 h => ?_) q
  · obtain ⟨S1, h1, rfl⟩ := h
    exact kk q v S1 h1
  · obtain ⟨S1, h1, -⟩ := h
    exact h1.elim
theorem sn_lcM (hO : sn_Ok (LoL b L xs) w C own cc nL ret tb nm) (hwM : sn_wok w wM) {y : MethodName} {by_ : ByteArray} {nY : Nat} {rY : Option FieldType} {rm : Room} {index n c2 s2 : Nat} {Qy : Option Value → sn_S → Prop} (As : List Value) (hC : sn_Cv (LoL b L xs) own index y by_ nY rY n 20) (hM : P → sn_Ct LoM wM y (ws_ y by_ nY rY) rm (.ref (wM.2.2.1 0) :: As) SM Qy sn_noE) (hR : rm.frames + 1 ≤ R.frames ∧ 8 + (nY + 11) + rm.locals ≤ R.locals) (hn : As.length = n) (hst : st = As.reverse ++ .ref (wM.2.2.1 0) :: rest) (hw : (rest.map fun v => v.category).sum ≤ 8) (hb2 : rm.cells ≤ mc ∧ rm.slots ≤ ms ∧ mc - rm.cells = c2 ∧ ms - rm.slots = s2) (hd : decode cc pc = .ok (.invokevirtual index, 3))
    (kk : P → ∀ (v : Option Value) (S1 : sn_S), Qy v S1 → sn_G (LoL b L xs) w R Q E C c2 s2 (pc + 3) lv (v.toList ++ rest) (sn_two wX wM SX S1)) : P → sn_G (LoL b L xs) w R Q E C mc ms pc lv st (sn_two wX wM SX SM) := by
  intro q
  refine sn_hnd (fun hnd => ?_)
  refine sn_callV (P := P) hO As hC (fun _ => sn_twoM hnd) (fun q => sn_frame rfl rfl hwM.1 hwM.2.1 hwM.2.2.1 (fun A U H h => XX_ok hwM h.1) (XX_O wM) (sn_ws LoX wX SX) (fun S1 => sn_ws LoX wX SX ++ sn_ws LoM wM S1) (fun _ => List.perm_append_comm) (hM q)) hR hn hst hw hb2 hd (fun q v S2 h => ?_) (fun _ cl q0 S2 h => ?_) q
  · obtain ⟨S1, h1, rfl⟩ := h
    exact kk q v S1 h1
  · obtain ⟨S1, h1, -⟩ := h
    exact h1.elim
theorem sn_dI {Pq : Int32 → sn_S → Prop} {c2 s2 : Nat} (k : ∀ (r : Int32) (S1 : sn_S), Pq r S1 → sn_G (LoL b L xs) w R Q E C c2 s2 pc lv (.int r :: rest) (sn_two wX wM S1 SM)) : P → ∀ (v : Option Value) (S1 : sn_S), sn_qI Pq v S1 → sn_G (LoL b L xs) w R Q E C c2 s2 pc lv (v.toList ++ rest) (sn_two wX wM S1 SM) := by
  rintro - v S1 ⟨r, rfl, h⟩
  exact k r S1 h
theorem sn_dIp {Pq : Int32 → Prop} {c2 s2 : Nat} (k : ∀ r : Int32, Pq r → sn_G (LoL b L xs) w R Q E C c2 s2 pc lv (.int r :: rest) (sn_two wX wM SX SM)) : P → ∀ (v : Option Value) (S1 : sn_S), sn_qI (fun r S1 => S1 = SX ∧ Pq r) v S1 → sn_G (LoL b L xs) w R Q E C c2 s2 pc lv (v.toList ++ rest) (sn_two wX wM S1 SM) := by
  rintro - v S1 ⟨r, rfl, rfl, h⟩
  exact k r h
theorem sn_dL {Pq : Int64 → sn_S → Prop} {c2 s2 : Nat} (k : ∀ (r : Int64) (S1 : sn_S), Pq r S1 → sn_G (LoL b L xs) w R Q E C c2 s2 pc lv (.long r :: rest) (sn_two wX wM S1 SM)) : P → ∀ (v : Option Value) (S1 : sn_S), sn_qL Pq v S1 → sn_G (LoL b L xs) w R Q E C c2 s2 pc lv (v.toList ++ rest) (sn_two wX wM S1 SM) := by
  rintro - v S1 ⟨r, rfl, h⟩
  exact k r S1 h
theorem sn_dLp {Pq : Int64 → Prop} {c2 s2 : Nat} (k : ∀ r : Int64, Pq r → sn_G (LoL b L xs) w R Q E C c2 s2 pc lv (.long r :: rest) (sn_two wX wM SX SM)) : P → ∀ (v : Option Value) (S1 : sn_S), sn_qL (fun r S1 => S1 = SX ∧ Pq r) v S1 → sn_G (LoL b L xs) w R Q E C c2 s2 pc lv (v.toList ++ rest) (sn_two wX wM S1 SM) := by
  rintro - v S1 ⟨r, rfl, rfl, h⟩
  exact k r h
theorem sn_eI {Pq : Int32 → sn_S → Prop} {c2 s2 : Nat} (k : ∀ (r : Int32) (S1 : sn_S), Pq r S1 → sn_G (LoL b L xs) w R Q E C c2 s2 pc lv (.int r :: rest) (sn_two wX wM SX S1)) : P → ∀ (v : Option Value) (S1 : sn_S), sn_qI Pq v S1 → sn_G (LoL b L xs) w R Q E C c2 s2 pc lv (v.toList ++ rest) (sn_two wX wM SX S1) := by
  rintro - v S1 ⟨r, rfl, h⟩
  exact k r S1 h
theorem sn_eL {Pq : Int64 → sn_S → Prop} {c2 s2 : Nat} (k : ∀ (r : Int64) (S1 : sn_S), Pq r S1 → sn_G (LoL b L xs) w R Q E C c2 s2 pc lv (.long r :: rest) (sn_two wX wM SX S1)) : P → ∀ (v : Option Value) (S1 : sn_S), sn_qL Pq v S1 → sn_G (LoL b L xs) w R Q E C c2 s2 pc lv (v.toList ++ rest) (sn_two wX wM SX S1) := by
  rintro - v S1 ⟨r, rfl, h⟩
  exact k r S1 h
end SNL
