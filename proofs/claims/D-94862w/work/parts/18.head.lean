/-! THE START, second part: what is known besides; the head of the law; whole_start out of the plain law -/
set_option maxRecDepth 100000
theorem start_nwF {s : State} {b : Nat} (ht : ∀ w ∈ lw_tbl, w.before #[Value.ref b] s = true) : ∀ x ∈ nwF, va_Nw (.fieldLinkNest x.1 x.2.1 x.2.2.1 x.2.2.2.1 x.2.2.2.2.1 x.2.2.2.2.2) s := List.forall_mem_cons.mpr ⟨va_Nw.of rfl (ht _ q186), List.forall_mem_cons.mpr ⟨va_Nw.of rfl (ht _ q188), List.forall_mem_cons.mpr ⟨va_Nw.of rfl (ht _ q191), List.forall_mem_cons.mpr ⟨va_Nw.of rfl (ht _ q193), List.forall_mem_cons.mpr ⟨va_Nw.of rfl (ht _ q196), List.forall_mem_cons.mpr ⟨va_Nw.of rfl (ht _ q199), List.forall_mem_cons.mpr ⟨va_Nw.of rfl (ht _ q202), List.forall_mem_cons.mpr ⟨va_Nw.of rfl (ht _ q205), List.forall_mem_cons.mpr ⟨va_Nw.of rfl (ht _ q210), List.forall_mem_cons.mpr ⟨va_Nw.of rfl (ht _ q213), List.forall_mem_cons.mpr ⟨va_Nw.of rfl (ht _ q216), List.forall_mem_cons.mpr ⟨va_Nw.of rfl (ht _ q219), List.forall_mem_cons.mpr ⟨va_Nw.of rfl (ht _ q332), List.forall_mem_cons.mpr ⟨va_Nw.of rfl (ht _ q335), List.forall_mem_cons.mpr ⟨va_Nw.of rfl (ht _ q337), List.forall_mem_cons.mpr ⟨va_Nw.of rfl (ht _ q339), List.forall_mem_cons.mpr ⟨va_Nw.of rfl (ht _ q341), List.forall_mem_cons.mpr ⟨va_Nw.of rfl (ht _ q366), List.forall_mem_cons.mpr ⟨va_Nw.of rfl (ht _ q368), List.forall_mem_cons.mpr ⟨va_Nw.of rfl (ht _ q370), List.forall_mem_cons.mpr ⟨va_Nw.of rfl (ht _ q377), List.forall_mem_cons.mpr ⟨va_Nw.of rfl (ht _ q379), List.forall_mem_cons.mpr ⟨va_Nw.of rfl (ht _ q381), List.forall_mem_cons.mpr ⟨va_Nw.of rfl (ht _ q425), List.forall_mem_cons.mpr ⟨va_Nw.of rfl (ht _ q429), List.forall_mem_cons.mpr ⟨va_Nw.of rfl (ht _ q453), List.forall_mem_cons.mpr ⟨va_Nw.of rfl (ht _ q455), List.forall_mem_cons.mpr ⟨va_Nw.of rfl (ht _ q458), List.forall_mem_cons.mpr ⟨va_Nw.of rfl (ht _ q460), List.forall_mem_cons.mpr ⟨va_Nw.of rfl (ht _ q462), List.forall_mem_cons.mpr ⟨va_Nw.of rfl (ht _ q781), List.forall_mem_cons.mpr ⟨va_Nw.of rfl (ht _ q887), List.forall_mem_cons.mpr ⟨va_Nw.of rfl (ht _ q901), List.forall_mem_cons.mpr ⟨va_Nw.of rfl (ht _ q903), List.forall_mem_cons.mpr ⟨va_Nw.of rfl (ht _ q1065), List.forall_mem_cons.mpr ⟨va_Nw.of rfl (ht _ q316), List.forall_mem_cons.mpr ⟨va_Nw.of rfl (ht _ q314), List.forall_mem_cons.mpr ⟨va_Nw.of rfl (ht _ q899), List.forall_mem_cons.mpr ⟨va_Nw.of rfl (ht _ q185), List.forall_mem_cons.mpr ⟨va_Nw.of rfl (ht _ q190), List.forall_mem_cons.mpr ⟨va_Nw.of rfl (ht _ q195), List.forall_mem_cons.mpr ⟨va_Nw.of rfl (ht _ q201), List.forall_mem_cons.mpr ⟨va_Nw.of rfl (ht _ q204), List.forall_mem_cons.mpr ⟨va_Nw.of rfl (ht _ q206), List.forall_mem_cons.mpr ⟨va_Nw.of rfl (ht _ q218), List.forall_mem_cons.mpr ⟨va_Nw.of rfl (ht _ q317), List.forall_mem_cons.mpr ⟨va_Nw.of rfl (ht _ q484), List.forall_mem_cons.mpr ⟨va_Nw.of rfl (ht _ q496), List.forall_mem_cons.mpr ⟨va_Nw.of rfl (ht _ q498), List.forall_mem_cons.mpr ⟨va_Nw.of rfl (ht _ q209), List.forall_mem_cons.mpr ⟨va_Nw.of rfl (ht _ q211), List.forall_mem_cons.mpr ⟨va_Nw.of rfl (ht _ q331), List.forall_mem_cons.mpr ⟨va_Nw.of rfl (ht _ q334), List.forall_mem_cons.mpr ⟨va_Nw.of rfl (ht _ q486), List.forall_mem_cons.mpr ⟨va_Nw.of rfl (ht _ q492), List.forall_mem_cons.mpr ⟨va_Nw.of rfl (ht _ q510), List.forall_mem_cons.mpr ⟨va_Nw.of rfl (ht _ q198), List.forall_mem_cons.mpr ⟨va_Nw.of rfl (ht _ q207), List.forall_mem_cons.mpr ⟨va_Nw.of rfl (ht _ q215), List.forall_mem_cons.mpr ⟨va_Nw.of rfl (ht _ q485), List.forall_mem_cons.mpr ⟨va_Nw.of rfl (ht _ q493), fun _ h => absurd h List.not_mem_nil⟩⟩⟩⟩⟩⟩⟩⟩⟩⟩⟩⟩⟩⟩⟩⟩⟩⟩⟩⟩⟩⟩⟩⟩⟩⟩⟩⟩⟩⟩⟩⟩⟩⟩⟩⟩⟩⟩⟩⟩⟩⟩⟩⟩⟩⟩⟩⟩⟩⟩⟩⟩⟩⟩⟩⟩⟩⟩⟩⟩⟩
theorem start_nwM {s : State} {b : Nat} (ht : ∀ w ∈ lw_tbl, w.before #[Value.ref b] s = true) : ∀ x ∈ nwM, va_Nw (.methodLinkNest x.1 x.2.1 x.2.2.1 x.2.2.2) s := List.forall_mem_cons.mpr ⟨va_Nw.of rfl (ht _ q150), List.forall_mem_cons.mpr ⟨va_Nw.of rfl (ht _ q248), List.forall_mem_cons.mpr ⟨va_Nw.of rfl (ht _ q326), List.forall_mem_cons.mpr ⟨va_Nw.of rfl (ht _ q358), List.forall_mem_cons.mpr ⟨va_Nw.of rfl (ht _ q410), List.forall_mem_cons.mpr ⟨va_Nw.of rfl (ht _ q420), List.forall_mem_cons.mpr ⟨va_Nw.of rfl (ht _ q447), List.forall_mem_cons.mpr ⟨va_Nw.of rfl (ht _ q950), List.forall_mem_cons.mpr ⟨va_Nw.of rfl (ht _ q977), List.forall_mem_cons.mpr ⟨va_Nw.of rfl (ht _ q989), List.forall_mem_cons.mpr ⟨va_Nw.of rfl (ht _ q1030), List.forall_mem_cons.mpr ⟨va_Nw.of rfl (ht _ q1049), List.forall_mem_cons.mpr ⟨va_Nw.of rfl (ht _ q1060), List.forall_mem_cons.mpr ⟨va_Nw.of rfl (ht _ q1116), List.forall_mem_cons.mpr ⟨va_Nw.of rfl (ht _ q1121), List.forall_mem_cons.mpr ⟨va_Nw.of rfl (ht _ q1133), List.forall_mem_cons.mpr ⟨va_Nw.of rfl (ht _ q1140), List.forall_mem_cons.mpr ⟨va_Nw.of rfl (ht _ q364), List.forall_mem_cons.mpr ⟨va_Nw.of rfl (ht _ q1251), List.forall_mem_cons.mpr ⟨va_Nw.of rfl (ht _ q1279), List.forall_mem_cons.mpr ⟨va_Nw.of rfl (ht _ q1280), List.forall_mem_cons.mpr ⟨va_Nw.of rfl (ht _ q1303), List.forall_mem_cons.mpr ⟨va_Nw.of rfl (ht _ q1351), List.forall_mem_cons.mpr ⟨va_Nw.of rfl (ht _ q1354), List.forall_mem_cons.mpr ⟨va_Nw.of rfl (ht _ q1382), fun _ h => absurd h List.not_mem_nil⟩⟩⟩⟩⟩⟩⟩⟩⟩⟩⟩⟩⟩⟩⟩⟩⟩⟩⟩⟩⟩⟩⟩⟩⟩
theorem start_nwC {s : State} {b : Nat} (ht : ∀ w ∈ lw_tbl, w.before #[Value.ref b] s = true) : ∀ x ∈ nwC, va_Nw (.castable x.1 x.2) s := List.forall_mem_cons.mpr ⟨va_Nw.of rfl (ht _ q607), List.forall_mem_cons.mpr ⟨va_Nw.of rfl (ht _ q2077), List.forall_mem_cons.mpr ⟨va_Nw.of rfl (ht _ q2095), List.forall_mem_cons.mpr ⟨va_Nw.of rfl (ht _ q2096), List.forall_mem_cons.mpr ⟨va_Nw.of rfl (ht _ q2076), List.forall_mem_cons.mpr ⟨va_Nw.of rfl (ht _ q2074), List.forall_mem_cons.mpr ⟨va_Nw.of rfl (ht _ q2085), List.forall_mem_cons.mpr ⟨va_Nw.of rfl (ht _ q875), List.forall_mem_cons.mpr ⟨va_Nw.of rfl (ht _ q2086), List.forall_mem_cons.mpr ⟨va_Nw.of rfl (ht _ q2087), List.forall_mem_cons.mpr ⟨va_Nw.of rfl (ht _ q2088), List.forall_mem_cons.mpr ⟨va_Nw.of rfl (ht _ q2089), List.forall_mem_cons.mpr ⟨va_Nw.of rfl (ht _ q2090), List.forall_mem_cons.mpr ⟨va_Nw.of rfl (ht _ q2071), List.forall_mem_cons.mpr ⟨va_Nw.of rfl (ht _ q2091), List.forall_mem_cons.mpr ⟨va_Nw.of rfl (ht _ q2072), List.forall_mem_cons.mpr ⟨va_Nw.of rfl (ht _ q2092), List.forall_mem_cons.mpr ⟨va_Nw.of rfl (ht _ q2078), List.forall_mem_cons.mpr ⟨va_Nw.of rfl (ht _ q2073), List.forall_mem_cons.mpr ⟨va_Nw.of rfl (ht _ q2093), List.forall_mem_cons.mpr ⟨va_Nw.of rfl (ht _ q2094), List.forall_mem_cons.mpr ⟨va_Nw.of rfl (ht _ q254), List.forall_mem_cons.mpr ⟨va_Nw.of rfl (ht _ q2079), List.forall_mem_cons.mpr ⟨va_Nw.of rfl (ht _ q2075), List.forall_mem_cons.mpr ⟨va_Nw.of rfl (ht _ q2080), List.forall_mem_cons.mpr ⟨va_Nw.of rfl (ht _ q2081), List.forall_mem_cons.mpr ⟨va_Nw.of rfl (ht _ q2082), List.forall_mem_cons.mpr ⟨va_Nw.of rfl (ht _ q2083), List.forall_mem_cons.mpr ⟨va_Nw.of rfl (ht _ q2084), List.forall_mem_cons.mpr ⟨va_Nw.of rfl (ht _ q2104), List.forall_mem_cons.mpr ⟨va_Nw.of rfl (ht _ q2101), List.forall_mem_cons.mpr ⟨va_Nw.of rfl (ht _ q2105), List.forall_mem_cons.mpr ⟨va_Nw.of rfl (ht _ q2103), List.forall_mem_cons.mpr ⟨va_Nw.of rfl (ht _ q2106), List.forall_mem_cons.mpr ⟨va_Nw.of rfl (ht _ q2100), List.forall_mem_cons.mpr ⟨va_Nw.of rfl (ht _ q2102), fun _ h => absurd h List.not_mem_nil⟩⟩⟩⟩⟩⟩⟩⟩⟩⟩⟩⟩⟩⟩⟩⟩⟩⟩⟩⟩⟩⟩⟩⟩⟩⟩⟩⟩⟩⟩⟩⟩⟩⟩⟩⟩
theorem start_nwD {s : State} {b : Nat} (ht : ∀ w ∈ lw_tbl, w.before #[Value.ref b] s = true) : ∀ x ∈ nwD, va_Nw (.declares x) s := List.forall_mem_cons.mpr ⟨va_Nw.of rfl (ht _ q2099), List.forall_mem_cons.mpr ⟨va_Nw.of rfl (ht _ q257), List.forall_mem_cons.mpr ⟨va_Nw.of rfl (ht _ q258), List.forall_mem_cons.mpr ⟨va_Nw.of rfl (ht _ q255), List.forall_mem_cons.mpr ⟨va_Nw.of rfl (ht _ q256), List.forall_mem_cons.mpr ⟨va_Nw.of rfl (ht _ q1182), List.forall_mem_cons.mpr ⟨va_Nw.of rfl (ht _ q1176), List.forall_mem_cons.mpr ⟨va_Nw.of rfl (ht _ q606), fun _ h => absurd h List.not_mem_nil⟩⟩⟩⟩⟩⟩⟩⟩
def skTm (i : Nat) : Term := .string "SnailPost$Reader" (skI.getD i 0)
def skGiven : List Cond := flatC (Jvm.Cond.and given_1 narrow_1)
theorem skG1 : ∀ i, i < 29 → Cond.exactly (skTm i) "java/lang/String" ∈ skGiven := by decide +kernel
theorem skG2 : ∀ i, i < 29 → Cond.eq (.field (skTm i) "java/lang/String" "coder" "B") (.int 0) ∈ skGiven := by decide +kernel
theorem skG3 : ∀ i, i < 29 → Cond.arrayOf (.field (skTm i) "java/lang/String" "value" "[B") .byte ∈ skGiven := by decide +kernel
theorem skG4 : ∀ i, i < 29 → Cond.eq (.length (.field (skTm i) "java/lang/String" "value" "[B")) (.int (Int32.ofNat (skL.getD i 0))) ∈ skGiven := by decide +kernel
theorem skG5 : ∀ i, i < 29 → ∀ j, j < skL.getD i 0 → Cond.eq (.elem (.field (skTm i) "java/lang/String" "value" "[B") (.int (Int32.ofNat j))) (.int ((skB.getD i []).getD j 0)) ∈ skGiven := by decide +kernel
theorem skG6 : ∀ i, i < 29 → skL.getD i 0 < 2 ^ 31 := by decide +kernel
theorem skG7 : Cond.isRef (.mirror "[Ljava/lang/Object;") ∈ skGiven ∧ Cond.eq (.static "java/lang/String" "COMPACT_STRINGS" "Z") (.int 1) ∈ skGiven ∧ Cond.isRef (.static "jdk/internal/util/Preconditions" "SIOOBE_FORMATTER" "Ljava/util/function/BiFunction;") ∈ skGiven ∧ Cond.isRef (.static "java/lang/Throwable" "UNASSIGNED_STACK" "[Ljava/lang/StackTraceElement;") ∈ skGiven ∧ Cond.isRef (.static "java/lang/Throwable" "SUPPRESSED_SENTINEL" "Ljava/util/List;") ∈ skGiven := by decide +kernel
theorem start_str {args : Array Value} {s : State} {A : Nat → Prop} (hs : ∀ c ∈ skGiven, c.before args s = true) (hA : ∀ a : Nat, a < s.heap.size → ¬ A a) : ∃ adK adV : Nat → Nat, sk_S adK adV A s s.heap ∧ ∀ i : Nat, i < 29 → (skTm i).eval args s none [] s = some (.ref (adK i)) := by
  have h0 : ∀ i : Nat, ∃ q : Nat × Nat, i < 29 → (skTm i).eval args s none [] s = some (.ref q.1) ∧ va_O "java/lang/String" q.1 A s s.heap ∧ va_OF "java/lang/String" "coder" "B" (.int 0) q.1 A s s.heap ∧ va_OF "java/lang/String" "value" "[B" (.ref q.2) q.1 A s s.heap ∧ va_T .byte q.2 (skL.getD i 0) (fun j => .int ((skB.getD i []).getD j 0)) A s s.heap := by
    intro i
    by_cases hi : i < 29
    · obtain ⟨a, c, cA, kA, q1, q2, q3, q4, q5, q6, -⟩ := Cond.exactly_spec (args := args) (first := s) (o := none) (s := s) (idx := []) (t := skTm i) (cls := "java/lang/String") (hs _ (skG1 i hi))
      obtain ⟨t, ht, hT⟩ := va_Tof (f := fun j => .int ((skB.getD i []).getD j 0)) (A := A) (skG6 i hi) (hs _ (skG3 i hi)) (va_eqt (hs _ (skG4 i hi))) (fun j hj => va_eqt (hs _ (skG5 i hi j hj))) hA
      exact ⟨(a, t), fun _ => ⟨q1, ⟨cA, q3, q5, by rw [q6]; exact q2, hA a (Array.getElem?_eq_some_iff.mp q3).1⟩, vk_OFof q1 (va_eqt (hs _ (skG2 i hi))) hA, vk_OFof q1 ht hA, hT⟩⟩
    · exact ⟨(0, 0), fun h => absurd h hi⟩
  obtain ⟨ad, had⟩ := Classical.axiomOfChoice h0
  exact ⟨fun i => (ad i).1, fun i => (ad i).2, fun i hi => (had i hi).2, fun i hi => (had i hi).1⟩
theorem start_sr {s : State} {b : Nat} (ht : ∀ w ∈ lw_tbl, w.before #[Value.ref b] s = true) : ∀ i, i < 29 → (Cond.stringRef "SnailPost$Reader" (skI.getD i 0) (skT.getD i "")).before #[Value.ref b] s = true := fun i hi => by
  match i, hi with
  | 0, _ => exact ht _ q1084
  | 1, _ => exact ht _ q817
  | 2, _ => exact ht _ q870
  | 3, _ => exact ht _ q871
  | 4, _ => exact ht _ q1002
  | 5, _ => exact ht _ q1083
  | 6, _ => exact ht _ q1054
  | 7, _ => exact ht _ q1015
  | 8, _ => exact ht _ q1020
  | 9, _ => exact ht _ q1021
  | 10, _ => exact ht _ q1022
  | 11, _ => exact ht _ q1023
  | 12, _ => exact ht _ q1024
  | 13, _ => exact ht _ q1000
  | 14, _ => exact ht _ q1001
  | 15, _ => exact ht _ q982
  | 16, _ => exact ht _ q983
  | 17, _ => exact ht _ q962
  | 18, _ => exact ht _ q963
  | 19, _ => exact ht _ q964
  | 20, _ => exact ht _ q965
  | 21, _ => exact ht _ q966
  | 22, _ => exact ht _ q967
  | 23, _ => exact ht _ q968
  | 24, _ => exact ht _ q969
  | 25, _ => exact ht _ q970
  | 26, _ => exact ht _ q971
  | 27, _ => exact ht _ q923
  | 28, _ => exact ht _ q928
  | i + 29, hi => exact absurd hi (by omega)
theorem start_XX {s : State} {b : Nat} (ht : ∀ w ∈ lw_tbl, w.before #[Value.ref b] s = true) (hgv : (Jvm.Cond.and given_1 narrow_1).before #[Value.ref b] s = true) {A : Nat → Prop} (hA : ∀ a : Nat, a < s.heap.size → ¬ A a) : ∃ z : (Nat → Nat) × (Nat → Nat) × Nat, ∀ (D : va_G) (dA : Nat → ClassId) (hs : Nat → Nat) (l : Launch), XX (D, dA, hs, l, z) A s s.heap := by
  have hs := flat_of_before _ hgv
  obtain ⟨g1, g2, g3, g4, g5⟩ := skG7
  obtain ⟨adK, adV, hS, hE⟩ := start_str hs hA
  obtain ⟨mi, hmi⟩ := va_Mi.of (hs _ g1)
  refine ⟨(adK, adV, mi), fun D dA hs0 l => ⟨start_nwF ht, start_nwM ht, start_nwC ht, start_nwD ht, ⟨va_AO.of (ht _ q167), va_AO.of (ht _ q245), va_AO.of (ht _ q363)⟩, hmi, fun i hi => vk_R.of (start_sr ht i hi) (hE i hi), hS, va_Zof (ht _ q831) (ht _ (lw_all_tbl q119)) (va_eqt (hs _ g2)) hA, va_Zqof (ht _ q847) (ht _ (lw_all_tbl q121)) (hs _ g3) hA, va_Zqof (ht _ q277) (ht _ (lw_all_tbl q109)) (hs _ g4) hA, va_Zqof (ht _ q279) (ht _ (lw_all_tbl q109)) (hs _ g5) hA, va_Fw.of (ht _ q606) (ht _ q605) (ht _ q611) (ht _ q609) (ht _ q607)⟩⟩
abbrev fsX0 : List Value := [.int 0, .null, .null, .null, .null, .int 0, .int 0, .int 0, .int 0, .null, .null, .null, .null, .int 0, .null, .null, .int 0, .int 0, .int 0, .int 0, .int 0, .null, .null, .null, .null, .null, .int 0, .int 0]
abbrev fsX9 : List Value := [.int 0, .int 0, .null, .null, .null, .null, .int 0, .null, .int 0, .int 0, .int 0, .int 0, .long 0, .int 0, .int 0, .int 0, .null, .int 0, .null, .null, .int 0, .null, .null, .int 0, .int 0, .null, .null, .int 0, .null, .null, .int 0, .long 0, .long 0, .null, .null, .null, .null, .null, .null, .null, .null, .null, .null, .null, .int 0, .int 0, .int 0, .null, .null, .null, .null, .null, .null, .null, .null, .long 0, .null, .null, .null, .int 0]
theorem ciL_9 : sn_Ci RL 9 yX0_init cX0_init 1 0 := ⟨lw_meth q144, q103, q142, q143, rfl, by decide +kernel⟩
theorem ciL_12 : sn_Ci RL 12 yX9_init cX9_init 2 0 := ⟨lw_meth q1438, q117, q1436, q1437, rfl, by decide +kernel⟩
def sn_hs (w : sn_W) (h : Nat → Nat) : sn_W := (w.1, w.2.1, h, w.2.2.2)
def sn_S0 : sn_S := sn_pl []
/-- the law in plain Lean, from its entry -/
def wpL_head (w : sn_W) (L : Nat) (xs : Nat → Int32) : Prop :=
  sn_nw sn_S0 1200128 5501098 28 (.inr (0, fsX0)) (fun a S1 => ∃ u v : Nat, u ≤ 1200128 - 1 ∧ v ≤ 5501098 - 28 ∧ wpX0_init w a S1 u v (fun S2 => sn_nw S2 (1200128 - 1 - u) (5501098 - 28 - v) 60 (.inr (20, fsX9)) (fun c S3 => ∃ u2 v2 : Nat, u2 ≤ 1200128 - 1 - u - 1 ∧ v2 ≤ 5501098 - 28 - v - 60 ∧ wpX9_init w c S3 u2 v2 (fun S4 => ∃ (hX hM : Nat → Nat) (SX SM : sn_S), hX 0 = a ∧ hM 0 = c ∧ (va_pl S4.2.2.2.1 S4.2.2.2.2).Perm (sn_ws LoX (sn_hs w hX) SX ++ sn_ws LoM (sn_hs w hM) SM) ∧ wpL_loop (sn_hs w hX) L xs 0 (1200128 - 1 - u - 1 - u2) (5501098 - 28 - v - 60 - v2) SX SM))))
theorem wkL_head {b L : Nat} {xs : Nat → Int32} {w : sn_W} {C : sn_C} {nm : String} {tb : List ExceptionTableEntry} (hO : sn_Ok (LoL b L xs) w C RL cL_law 4 ret tb nm) : wpL_head w L xs → sn_G (LoL b L xs) w room_1 (sn_qI (fun r _ => r = 1)) sn_noE C 1200128 5501098 0 [(0, .ref b)] [] sn_S0 := by
  unfold wpL_head
  refine sn_new (fs := fsX0) hO tyX0 in_X0 tyX0_ok q140 q141 q103 rfl nfX_0 dL_law_0 (fun a S1 => ?_)
  refine sn_dup hO rfl dL_law_3 ?_
  refine sn_bud (fun u v hu hv => ?_)
  refine sn_callI (rY := none) hO (c2 := 1200128 - 1 - u) (s2 := 5501098 - 28 - v) (rm := rmX0_init u v) [] ciL_9 (fun h => sn_weakX (X := XX) (fun A U H h => h.1) (ctX0_init (n := 0) h)) ⟨Nat.le_of_ble_eq_true rfl, Nat.le_of_ble_eq_true rfl⟩ rfl rfl (Nat.le_of_ble_eq_true rfl) ⟨hu, hv, rfl, rfl⟩ dL_law_4 (sn_bV (fun S2 => ?_)) sn_x0
  refine sn_astore_n hO (lv' := [(1, .ref a), (0, .ref b)]) (by decide) rfl dL_law_7 ?_
  refine sn_new (fs := fsX9) hO tyX9 in_X9 tyX9_ok q1434 q1435 q117 rfl nfX_20 dL_law_8 (fun c S3 => ?_)
  refine sn_dup hO rfl dL_law_11 ?_
  refine sn_bud (fun u2 v2 hu2 hv2 => ?_)
  refine sn_callI (rY := none) hO (c2 := 1200128 - 1 - u - 1 - u2) (s2 := 5501098 - 28 - v - 60 - v2) (rm := rmX9_init u2 v2) [] ciL_12 (fun h => sn_weakX (X := XX) (fun A U H h => h.1) (ctX9_init (n := 0) h)) ⟨Nat.le_of_ble_eq_true rfl, Nat.le_of_ble_eq_true rfl⟩ rfl rfl (Nat.le_of_ble_eq_true rfl) ⟨hu2, hv2, rfl, rfl⟩ dL_law_12 (sn_bV (fun S4 => ?_)) sn_x0
  refine sn_astore_n hO (lv' := [(2, .ref c), (1, .ref a), (0, .ref b)]) (by decide) rfl dL_law_15 ?_
  refine sn_iconst hO kc_0 dL_law_16 ?_
  refine sn_istore_n hO (lv' := [(3, .int 0), (2, .ref c), (1, .ref a), (0, .ref b)]) (by decide) rfl dL_law_17 ?_
  rintro ⟨hX, hM, SX, SM, rfl, rfl, hp, h⟩
  refine sn_perm _ hp ?_
  exact sn_sub [3, 2, 1, 0] rfl (wkL_loop (wX := sn_hs w hX) (wM := sn_hs w hM) hO ⟨rfl, rfl, rfl, rfl⟩ ⟨rfl, rfl, rfl, rfl⟩) h
/-- what is owed beyond the machine -/
def plainL : Prop := ∀ (w : sn_W) (L : Nat) (xs : Nat → Int32), L ≤ 384 → wpL_head w L xs
theorem whole_of (hp : plainL) {p : Program} {e : Env} {s : State} {m : MethodId} {below : List Frame} {meth : Method} {c : Code} (l : Launch) {b L : Nat} {xs : Nat → Int32} (hL : L ≤ 384) (C0 : lw_At p s m meth c b L xs) : W p l e room_1 s m #[Value.ref b] below meth c s.heap [] 0 0 (lw_Z below #[Value.ref b] s) (entryFrame m ([Value.ref b] : List Value).toArray 4) := by
  obtain ⟨hx, hb, hr, hml, hown, ht, hX, hbl, hlk, hgv⟩ := C0
  have hA : ∀ a : Nat, a < s.heap.size → ¬ s.heap.size ≤ a := fun a h => Nat.not_le.mpr h
  obtain ⟨D, hD⟩ := start_cls ht
  obtain ⟨dA, hdA⟩ := start_tys ht
  obtain ⟨z, hz⟩ := start_XX ht hgv hA
  have hK : va_K D clX (sn_ty (LoL b L xs) (D, dA, fun _ => 0, l, z)) s := by
    refine ⟨hD, fun k q hq => ?_⟩
    have hq : (tyXl.mapIdx (fun t ty => (dA t, ty)))[k]? = some q := hq
    rw [List.getElem?_mapIdx, Option.map_eq_some_iff] at hq
    obtain ⟨ty, h1, rfl⟩ := hq
    exact hdA k ty h1
  have hO : sn_Ok (LoL b L xs) (D, dA, fun _ => 0, l, z) (p, e, s, m, #[Value.ref b], below, meth, c, fun q => s.heap.size ≤ q) RL cL_law 4 ret c.exceptionTable.toList meth.name := ⟨hx, hb, hml, hr, hlk, hown, fun v hv => ht v (lw_all_tbl hv), hK, fun q h => h, XL_O b L xs _, ⟨hz D dA _ l, hX, hbl, hA b hbl⟩, rfl, rfl⟩
  have hl := lv_entry ([.ref b]) (n := 4) (Nat.le_of_ble_eq_true rfl)
  rw [lg_entry_eq]
  have hP0 : va_P D clX (sn_ws (LoL b L xs) (D, dA, fun _ => 0, l, z) sn_S0) s.heap := va_P_mem.mpr (fun q h => absurd (show q ∈ ([] : va_W) from h) List.not_mem_nil)
  have hD0 : va_D (fun q => s.heap.size ≤ q) (sn_ws (LoL b L xs) (D, dA, fun _ => 0, l, z) sn_S0) := va_D_mem.mpr ⟨List.Pairwise.nil, fun q h => absurd (show q ∈ ([] : va_W) from h) List.not_mem_nil⟩
  have hG := wkL_head hO (hp (D, dA, fun _ => 0, l, z) L xs hL) s.heap [] _ hP0 hD0 va_S.rf (by rw [hml]; exact hl) ⟨Nat.le_of_ble_eq_true rfl, Nat.le_of_ble_eq_true rfl⟩
  have hc0 : room_1.cells - 1200128 = 0 := by decide +kernel
  have hs0 : room_1.slots - 5501098 = 0 := by decide +kernel
  rw [hc0, hs0] at hG
  have hc1 : room_1.cells = 1200128 := by decide +kernel
  have hs1 : room_1.slots = 5501098 := by decide +kernel
  intro T hT X
  obtain ⟨t, a1, o, b1, b2, b3⟩ := hG T hT X
  refine ⟨t, a1, o, b1, b2, ?_⟩
  rcases b3 with ⟨⟨⟨v, S, hv, ⟨r, hr1, hr2⟩, -, -⟩, -⟩, L1, hfe, hfr⟩ | ⟨q, hq, cl, ce, L1, ⟨⟨S, hE, -⟩, -⟩, -⟩
  · refine ⟨?_, ⟨v, hv⟩, hfe.2.1, ?_⟩
    · rw [hv, hr1, hr2]
    · rw [hc1, hs1] at hfe
      exact hfe.2.2.weaken (fun y hy hlt => absurd hlt (Nat.not_lt.mpr (hfr y hy))) (Nat.le_refl _) (Nat.le_refl _)
  · exact hE.elim
