/-! SnailPost: what its methods do, in plain Lean (wp..), the walks (wk..), the contracts (ct..) -/
set_option maxRecDepth 100000
def rmX0_in : Room := { frames := 0, cells := 0, slots := 0, locals := 0 }
/-- SnailPost.in(III)Z -/
def wpX0_in (w : sn_W) (p1 : Int32) (p2 : Int32) (p3 : Int32) (Q : Int32 → Prop) : Prop :=
  ((p1 < p2 → Q 0) ∧ (¬ p1 < p2 → ((p3 < p1 → Q 0) ∧ (¬ p3 < p1 → Q 1))))
theorem wkX0_in {w : sn_W} {C : sn_C} (hO : sn_Ok LoX w C RX0 cX0_in 3 (some .boolean) [] "in") (p1 : Int32) (p2 : Int32) (p3 : Int32) (S : sn_S) (Q : Int32 → Prop) : wpX0_in w p1 p2 p3 Q → sn_G LoX w rmX0_in (sn_qI (fun r S1 => S1 = S ∧ Q r)) sn_noE C 0 0 0 [(0, .int p1), (1, .int p2), (2, .int p3)] [] S := by
  unfold wpX0_in
  generalize hQq : (sn_qI (fun r S1 => S1 = S ∧ Q r)) = Qq
  refine sn_iload_n hO 0 rfl dX0_in_0 ?_
  refine sn_iload_n hO 1 rfl dX0_in_1 ?_
  refine sn_icmp_lt hO 14 (by decide) dX0_in_2 ?_ ?_
  · refine sn_iconst hO kc_0 dX0_in_14 ?_
    subst hQq
    exact fun h => sn_zret hO (ty := .boolean) rfl rfl dX0_in_15 ⟨rfl, h⟩
  · refine sn_iload_n hO 0 rfl dX0_in_5 ?_
    refine sn_iload_n hO 2 rfl dX0_in_6 ?_
    refine sn_icmp_gt hO 14 (by decide) dX0_in_7 ?_ ?_
    · refine sn_iconst hO kc_0 dX0_in_14 ?_
      subst hQq
      exact fun h => sn_zret hO (ty := .boolean) rfl rfl dX0_in_15 ⟨rfl, h⟩
    · refine sn_iconst hO kc_1 dX0_in_10 ?_
      refine sn_goto hO 15 (by decide) dX0_in_11 ?_
      subst hQq
      exact fun h => sn_zret hO (ty := .boolean) rfl rfl dX0_in_15 ⟨rfl, h⟩
theorem ctX0_in {w : sn_W} {p1 : Int32} {p2 : Int32} {p3 : Int32} {S : sn_S} {Q : Int32 → Prop} (h : wpX0_in w p1 p2 p3 Q) : sn_Ct LoX w yX0_in (ws_ yX0_in cX0_in 3 (some .boolean)) rmX0_in [.int p1, .int p2, .int p3] S (sn_qI (fun r S1 => S1 = S ∧ Q r)) sn_noE := sn_Ct_of (XX_O w) (by decide) (Nat.le_of_ble_eq_true rfl) RX0 rfl (fun C hO => wkX0_in hO p1 p2 p3 S Q h)
def rmX0_refuse : Room := { frames := 0, cells := 0, slots := 0, locals := 0 }
/-- SnailPost.refuse(I)I -/
def wpX0_refuse (w : sn_W) (p1 : Int32) (S : sn_S) (Q : Int32 → sn_S → Prop) : Prop :=
  sn_lt (sn_pI S 0 0 p1) (fun S10 => (vp_in (-p1) 7 ∧ (vp_in (-p1) 7 ∧ sn_lt (sn_pI S10 1 ((-p1)).toNatClampNeg ((S10.1 1 ((-p1)).toNatClampNeg) + 1)) (fun S11 => Q p1 S11))))
theorem wkX0_refuse {w : sn_W} {C : sn_C} (hO : sn_Ok LoX w C RX0 cX0_refuse 2 (some .int) [] "refuse") (p1 : Int32) (S : sn_S) (Q : Int32 → sn_S → Prop) : wpX0_refuse w p1 S Q → sn_G LoX w rmX0_refuse (sn_qI Q) sn_noE C 0 0 0 [(0, .ref (w.2.2.1 0)), (1, .int p1)] [] S := by
  unfold wpX0_refuse
  generalize hQq : (sn_qI Q) = Qq
  refine sn_aload_n hO 0 rfl dX0_refuse_0 ?_
  refine sn_iload_n hO 1 rfl dX0_refuse_1 ?_
  refine sn_putI hO fX0_97 atX_0 rfl rfl dX0_refuse_2 ?_
  refine sn_nmS (fun S10 => ?_)
  refine sn_aload_n hO 0 rfl dX0_refuse_5 ?_
  refine sn_getF hO fX0_7 atX_0 dX0_refuse_6 ?_
  refine sn_iload_n hO 1 rfl dX0_refuse_9 ?_
  refine sn_ineg hO dX0_refuse_10 ?_
  refine sn_dup2 hO rfl rfl dX0_refuse_11 ?_
  refine sn_iald hO atX_1 rfl dX0_refuse_12 ?_
  refine sn_iconst hO kc_1 dX0_refuse_13 ?_
  refine sn_iadd hO dX0_refuse_14 ?_
  refine sn_iast hO atX_1 rfl dX0_refuse_15 ?_
  refine sn_nmS (fun S11 => ?_)
  refine sn_iload_n hO 1 rfl dX0_refuse_16 ?_
  subst hQq
  exact sn_iret hO rfl dX0_refuse_17
theorem ctX0_refuse {w : sn_W} {p1 : Int32} {S : sn_S} {Q : Int32 → sn_S → Prop} (h : wpX0_refuse w p1 S Q) : sn_Ct LoX w yX0_refuse (ws_ yX0_refuse cX0_refuse 2 (some .int)) rmX0_refuse [.ref (w.2.2.1 0), .int p1] S (sn_qI Q) sn_noE := sn_Ct_of (XX_O w) (by decide) (Nat.le_of_ble_eq_true rfl) RX0 rfl (fun C hO => wkX0_refuse hO p1 S Q h)
def rmJ0_init : Room := { frames := 1, cells := 0, slots := 0, locals := 64 }
/-- java/util/AbstractCollection.<init>()V -/
def wpJ0_init (w : sn_W) (a0 : Nat) (S : sn_S) (Q : Prop) : Prop :=
  Q
theorem wkJ0_init {w : sn_W} {C : sn_C} {n : Nat} (hO : sn_Ok (LoN n) w C RJ0 cJ0_init 1 none [] "<init>") (a0 : Nat) (S : sn_S) (Q : Prop) : wpJ0_init w a0 S Q → sn_G (LoN n) w rmJ0_init (sn_qV (fun S1 => S1 = S ∧ Q)) sn_noE C 0 0 0 [(0, .ref a0)] [] S := by
  unfold wpJ0_init
  generalize hQq : (sn_qV (fun S1 => S1 = S ∧ Q)) = Qq
  refine sn_aload_n hO 0 rfl dJ0_init_0 ?_
  refine sn_objInit hO q165 q146 q147 ⟨Nat.le_of_ble_eq_true rfl, Nat.le_of_ble_eq_true rfl⟩ dJ0_init_1 ?_
  subst hQq
  exact fun h => sn_vret hO rfl dJ0_init_4 ⟨rfl, h⟩
theorem ctJ0_init {w : sn_W} {n : Nat} {a0 : Nat} {S : sn_S} {Q : Prop} (h : wpJ0_init w a0 S Q) : sn_Ct (LoN n) w yJ0_init (ws_ yJ0_init cJ0_init 1 none) rmJ0_init [.ref a0] S (sn_qV (fun S1 => S1 = S ∧ Q)) sn_noE := sn_Ct_of (XX_O w) (by decide) (Nat.le_of_ble_eq_true rfl) RJ0 rfl (fun C hO => wkJ0_init hO a0 S Q h)
def rmJ1_init : Room := { frames := 2, cells := 0, slots := 0, locals := 84 }
/-- java/util/AbstractList.<init>()V -/
def wpJ1_init (w : sn_W) (a0 : Nat) (S : sn_S) (Q : sn_S → Prop) : Prop :=
  wpJ0_init w a0 S ((sn_sV S a0 9 0 (.int 0) (fun S10 => Q S10)))
theorem wkJ1_init {w : sn_W} {C : sn_C} {n : Nat} (hO : sn_Ok (LoN n) w C RJ1 cJ1_init 1 none [] "<init>") (a0 : Nat) (S : sn_S) (Q : sn_S → Prop) : wpJ1_init w a0 S Q → sn_G (LoN n) w rmJ1_init (sn_qV Q) sn_noE C 0 0 0 [(0, .ref a0)] [] S := by
  unfold wpJ1_init
  generalize hQq : (sn_qV Q) = Qq
  refine sn_aload_n hO 0 rfl dJ1_init_0 ?_
  refine sn_callI (rY := none) hO (c2 := 0) (s2 := 0) (rm := rmJ0_init) [] ciJ1_1 (fun h => ctJ0_init h) ⟨Nat.le_of_ble_eq_true rfl, Nat.le_of_ble_eq_true rfl⟩ rfl rfl (Nat.le_of_ble_eq_true rfl) ⟨Nat.le_of_ble_eq_true rfl, Nat.le_of_ble_eq_true rfl, rfl, rfl⟩ dJ1_init_1 (sn_bVp ?_) sn_x0
  refine sn_aload_n hO 0 rfl dJ1_init_4 ?_
  refine sn_iconst hO kc_0 dJ1_init_5 ?_
  refine sn_oput hO fJ1_7 rfl rfl dJ1_init_6 (fun S10 => ?_)
  subst hQq
  exact sn_vret hO rfl dJ1_init_9
theorem ctJ1_init {w : sn_W} {n : Nat} {a0 : Nat} {S : sn_S} {Q : sn_S → Prop} (h : wpJ1_init w a0 S Q) : sn_Ct (LoN n) w yJ1_init (ws_ yJ1_init cJ1_init 1 none) rmJ1_init [.ref a0] S (sn_qV Q) sn_noE := sn_Ct_of (XX_O w) (by decide) (Nat.le_of_ble_eq_true rfl) RJ1 rfl (fun C hO => wkJ1_init hO a0 S Q h)
def rmJ2_init (mc ms : Nat) : Room := { frames := 3, cells := mc, slots := ms, locals := 104 }
/-- java/util/ArrayList.<init>(I)V -/
def wpJ2_init (w : sn_W) (a0 : Nat) (p1 : Int32) (S : sn_S) (mc : Nat) (ms : Nat) (Q : sn_S → Prop) : Prop :=
  wpJ1_init w a0 S (fun (S10 : sn_S) => ((p1 ≤ 0 → False) ∧ (¬ p1 ≤ 0 → (¬ p1 < 0 ∧ (p1).toNatClampNeg * 4 ≤ 536870912 ∧ sn_nw S10 mc ms (p1).toNatClampNeg (.inl (w.2.1 4, (p1).toNatClampNeg, .inr (.inr (.inr (.inr (fun _ => none)))))) (fun a11 S12 => (sn_sV S12 a0 9 1 (.ref a11) (fun S13 => Q S13)))))))
theorem wkJ2_init {w : sn_W} {C : sn_C} {n : Nat} (hO : sn_Ok (LoN n) w C RJ2 cJ2_init 2 none [] "<init>") (a0 : Nat) (p1 : Int32) (S : sn_S) (mc : Nat) (ms : Nat) (Q : sn_S → Prop) : wpJ2_init w a0 p1 S mc ms Q → sn_G (LoN n) w (rmJ2_init mc ms) (sn_qV Q) sn_noE C mc ms 0 [(0, .ref a0), (1, .int p1)] [] S := by
  unfold wpJ2_init
  generalize hQq : (sn_qV Q) = Qq
  refine sn_aload_n hO 0 rfl dJ2_init_0 ?_
  refine sn_callI (rY := none) hO (c2 := mc) (s2 := ms) (rm := rmJ1_init) [] ciJ2_1 (fun h => ctJ1_init h) ⟨Nat.le_of_ble_eq_true rfl, Nat.le_of_ble_eq_true rfl⟩ rfl rfl (Nat.le_of_ble_eq_true rfl) ⟨Nat.zero_le _, Nat.zero_le _, rfl, rfl⟩ dJ2_init_1 (sn_bV (fun S10 => ?_)) sn_x0
  refine sn_iload_n hO 1 rfl dJ2_init_4 ?_
  refine sn_if_le hO 19 (by decide) dJ2_init_5 ?_ ?_
  · exact sn_no (fun h => h)
  · refine sn_aload_n hO 0 rfl dJ2_init_8 ?_
    refine sn_iload_n hO 1 rfl dJ2_init_9 ?_
    refine sn_newq (t := 4) hO q166 aoX_4 rfl dJ2_init_10 (fun a11 S12 => ?_)
    refine sn_oput hO fJ2_9 rfl rfl dJ2_init_13 (fun S13 => ?_)
    refine sn_goto hO 60 (by decide) dJ2_init_16 ?_
    subst hQq
    exact sn_vret hO rfl dJ2_init_60
theorem ctJ2_init {w : sn_W} {n : Nat} {a0 : Nat} {p1 : Int32} {S : sn_S} {mc : Nat} {ms : Nat} {Q : sn_S → Prop} (h : wpJ2_init w a0 p1 S mc ms Q) : sn_Ct (LoN n) w yJ2_init (ws_ yJ2_init cJ2_init 2 none) (rmJ2_init mc ms) [.ref a0, .int p1] S (sn_qV Q) sn_noE := sn_Ct_of (XX_O w) (by decide) (Nat.le_of_ble_eq_true rfl) RJ2 rfl (fun C hO => wkJ2_init hO a0 p1 S mc ms Q h)
def rmX1_init (mc ms : Nat) : Room := { frames := 4, cells := mc, slots := ms, locals := 125 }
/-- SnailPost$State.<init>()V -/
def wpX1_init (w : sn_W) (a0 : Nat) (S : sn_S) (mc : Nat) (ms : Nat) (Q : sn_S → Prop) : Prop :=
  (sn_nw S mc ms 96 (.inl (w.2.1 0, 96, (.inl (fun _ => 0)))) (fun a10 S11 => (sn_sV S11 a0 1 0 (.ref a10) (fun S12 => (sn_nw S12 (mc - 1) (ms - 96) 36 (.inl (w.2.1 0, 36, (.inl (fun _ => 0)))) (fun a13 S14 => (sn_sV S14 a0 1 1 (.ref a13) (fun S15 => (sn_nw S15 ((mc - 1) - 1) ((ms - 96) - 36) 4 (.inl (w.2.1 0, 4, (.inl (fun _ => 0)))) (fun a16 S17 => (sn_sV S17 a0 1 2 (.ref a16) (fun S18 => (sn_nw S18 (((mc - 1) - 1) - 1) (((ms - 96) - 36) - 4) 5 (.inl (w.2.1 0, 5, (.inl (fun _ => 0)))) (fun a19 S20 => (sn_uI w S20 a19 0 0 (-1) (fun S21 => (sn_uI w S21 a19 0 1 (-1) (fun S22 => (sn_uI w S22 a19 0 2 (-1) (fun S23 => (sn_uI w S23 a19 0 3 (-1) (fun S24 => (sn_uI w S24 a19 0 4 (-1) (fun S25 => (sn_sV S25 a0 1 3 (.ref a19) (fun S26 => (sn_nw S26 ((((mc - 1) - 1) - 1) - 1) ((((ms - 96) - 36) - 4) - 5) 2 (.inl (w.2.1 0, 2, (.inl (fun _ => 0)))) (fun a27 S28 => (sn_uI w S28 a27 0 0 1 (fun S29 => (sn_uI w S29 a27 0 1 9 (fun S30 => (sn_sV S30 a0 1 4 (.ref a27) (fun S31 => (sn_nw S31 (((((mc - 1) - 1) - 1) - 1) - 1) (((((ms - 96) - 36) - 4) - 5) - 2) 24 (.inl (w.2.1 0, 24, (.inl (fun _ => 0)))) (fun a32 S33 => (sn_sV S33 a0 1 5 (.ref a32) (fun S34 => (sn_nw S34 ((((((mc - 1) - 1) - 1) - 1) - 1) - 1) ((((((ms - 96) - 36) - 4) - 5) - 2) - 24) 96 (.inl (w.2.1 1, 96, (.inl (fun _ => 0)))) (fun a35 S36 => (sn_sV S36 a0 1 6 (.ref a35) (fun S37 => (sn_nw S37 (((((((mc - 1) - 1) - 1) - 1) - 1) - 1) - 1) (((((((ms - 96) - 36) - 4) - 5) - 2) - 24) - 96) 3 (.inr (9, [.int 0, .null, .int 0])) (fun a38 S39 => (∃ u40 u41 : Nat, u40 ≤ ((((((((mc - 1) - 1) - 1) - 1) - 1) - 1) - 1) - 1) ∧ u41 ≤ ((((((((ms - 96) - 36) - 4) - 5) - 2) - 24) - 96) - 3) ∧ wpJ2_init w a38 2 S39 u40 u41 (fun (S42 : sn_S) => (sn_sV S42 a0 1 7 (.ref a38) (fun S43 => (sn_sV S43 a0 1 11 (.int (-1)) (fun S44 => Q S44))))))))))))))))))))))))))))))))))))))))))))))))))
theorem wkX1_init {w : sn_W} {C : sn_C} {n : Nat} (hO : sn_Ok (LoN n) w C RX1 cX1_init 1 none [] "<init>") (a0 : Nat) (S : sn_S) (mc : Nat) (ms : Nat) (Q : sn_S → Prop) : wpX1_init w a0 S mc ms Q → sn_G (LoN n) w (rmX1_init mc ms) (sn_qV Q) sn_noE C mc ms 0 [(0, .ref a0)] [] S := by
  unfold wpX1_init
  generalize hQq : (sn_qV Q) = Qq
  refine sn_aload_n hO 0 rfl dX1_init_0 ?_
  refine sn_objInit hO q153 q146 q147 ⟨Nat.le_of_ble_eq_true rfl, Nat.le_of_ble_eq_true rfl⟩ dX1_init_1 ?_
  refine sn_aload_n hO 0 rfl dX1_init_4 ?_
  refine sn_bipush hO kb_96 dX1_init_5 ?_
  refine sn_newa (t := 0) (N := 96) hO .int (.inl (fun _ => 0)) q182 rfl rfl (fun _ => rfl) (by decide) (by decide) (Nat.le_of_ble_eq_true rfl) dX1_init_7 (fun a10 S11 => ?_)
  refine sn_oputF hO fX1_9 (fun _ _ _ h => by cases h; rfl) rfl rfl dX1_init_9 (fun S12 => ?_)
  refine sn_aload_n hO 0 rfl dX1_init_12 ?_
  refine sn_bipush hO kb_36 dX1_init_13 ?_
  refine sn_newa (t := 0) (N := 36) hO .int (.inl (fun _ => 0)) q182 rfl rfl (fun _ => rfl) (by decide) (by decide) (Nat.le_of_ble_eq_true rfl) dX1_init_15 (fun a13 S14 => ?_)
  refine sn_oputF hO fX1_15 (fun _ _ _ h => by cases h; rfl) rfl rfl dX1_init_17 (fun S15 => ?_)
  refine sn_aload_n hO 0 rfl dX1_init_20 ?_
  refine sn_iconst hO kc_4 dX1_init_21 ?_
  refine sn_newa (t := 0) (N := 4) hO .int (.inl (fun _ => 0)) q182 rfl rfl (fun _ => rfl) (by decide) (by decide) (Nat.le_of_ble_eq_true rfl) dX1_init_22 (fun a16 S17 => ?_)
  refine sn_oputF hO fX1_18 (fun _ _ _ h => by cases h; rfl) rfl rfl dX1_init_24 (fun S18 => ?_)
  refine sn_aload_n hO 0 rfl dX1_init_27 ?_
  refine sn_iconst hO kc_5 dX1_init_28 ?_
  refine sn_newa (t := 0) (N := 5) hO .int (.inl (fun _ => 0)) q182 rfl rfl (fun _ => rfl) (by decide) (by decide) (Nat.le_of_ble_eq_true rfl) dX1_init_29 (fun a19 S20 => ?_)
  refine sn_dup hO rfl dX1_init_31 ?_
  refine sn_iconst hO kc_0 dX1_init_32 ?_
  refine sn_iconst hO kc_m1 dX1_init_33 ?_
  refine sn_oiast hO rfl dX1_init_34 (fun S21 => ?_)
  refine sn_dup hO rfl dX1_init_35 ?_
  refine sn_iconst hO kc_1 dX1_init_36 ?_
  refine sn_iconst hO kc_m1 dX1_init_37 ?_
  refine sn_oiast hO rfl dX1_init_38 (fun S22 => ?_)
  refine sn_dup hO rfl dX1_init_39 ?_
  refine sn_iconst hO kc_2 dX1_init_40 ?_
  refine sn_iconst hO kc_m1 dX1_init_41 ?_
  refine sn_oiast hO rfl dX1_init_42 (fun S23 => ?_)
  refine sn_dup hO rfl dX1_init_43 ?_
  refine sn_iconst hO kc_3 dX1_init_44 ?_
  refine sn_iconst hO kc_m1 dX1_init_45 ?_
  refine sn_oiast hO rfl dX1_init_46 (fun S24 => ?_)
  refine sn_dup hO rfl dX1_init_47 ?_
  refine sn_iconst hO kc_4 dX1_init_48 ?_
  refine sn_iconst hO kc_m1 dX1_init_49 ?_
  refine sn_oiast hO rfl dX1_init_50 (fun S25 => ?_)
  refine sn_oputF hO fX1_21 (fun _ _ _ h => by cases h; rfl) rfl rfl dX1_init_51 (fun S26 => ?_)
  refine sn_aload_n hO 0 rfl dX1_init_54 ?_
  refine sn_iconst hO kc_2 dX1_init_55 ?_
  refine sn_newa (t := 0) (N := 2) hO .int (.inl (fun _ => 0)) q182 rfl rfl (fun _ => rfl) (by decide) (by decide) (Nat.le_of_ble_eq_true rfl) dX1_init_56 (fun a27 S28 => ?_)
  refine sn_dup hO rfl dX1_init_58 ?_
  refine sn_iconst hO kc_0 dX1_init_59 ?_
  refine sn_iconst hO kc_1 dX1_init_60 ?_
  refine sn_oiast hO rfl dX1_init_61 (fun S29 => ?_)
  refine sn_dup hO rfl dX1_init_62 ?_
  refine sn_iconst hO kc_1 dX1_init_63 ?_
  refine sn_bipush hO kb_9 dX1_init_64 ?_
  refine sn_oiast hO rfl dX1_init_66 (fun S30 => ?_)
  refine sn_oputF hO fX1_24 (fun _ _ _ h => by cases h; rfl) rfl rfl dX1_init_67 (fun S31 => ?_)
  refine sn_aload_n hO 0 rfl dX1_init_70 ?_
  refine sn_bipush hO kb_24 dX1_init_71 ?_
  refine sn_newa (t := 0) (N := 24) hO .int (.inl (fun _ => 0)) q182 rfl rfl (fun _ => rfl) (by decide) (by decide) (Nat.le_of_ble_eq_true rfl) dX1_init_73 (fun a32 S33 => ?_)
  refine sn_oputF hO fX1_27 (fun _ _ _ h => by cases h; rfl) rfl rfl dX1_init_75 (fun S34 => ?_)
  refine sn_aload_n hO 0 rfl dX1_init_78 ?_
  refine sn_bipush hO kb_96 dX1_init_79 ?_
  refine sn_newa (t := 1) (N := 96) hO .boolean (.inl (fun _ => 0)) q183 rfl rfl (fun _ => rfl) (by decide) (by decide) (Nat.le_of_ble_eq_true rfl) dX1_init_81 (fun a35 S36 => ?_)
  refine sn_oputF hO fX1_30 (fun _ _ _ h => by cases h; rfl) rfl rfl dX1_init_83 (fun S37 => ?_)
  refine sn_aload_n hO 0 rfl dX1_init_86 ?_
  refine sn_new (fs := [.int 0, .null, .int 0]) hO tyJ2 in_J2 tyJ2_ok q154 q155 q107 rfl nfX_9 dX1_init_87 (fun a38 S39 => ?_)
  refine sn_dup hO rfl dX1_init_90 ?_
  refine sn_iconst hO kc_2 dX1_init_91 ?_
  refine sn_bud (fun u40 u41 hu40 hu41 => ?_)
  refine sn_callI (rY := none) hO (c2 := (((((((((mc - 1) - 1) - 1) - 1) - 1) - 1) - 1) - 1) - u40)) (s2 := (((((((((ms - 96) - 36) - 4) - 5) - 2) - 24) - 96) - 3) - u41)) (rm := (rmJ2_init u40 u41)) [.int 2] ciX1_36 (fun h => ctJ2_init h) ⟨Nat.le_of_ble_eq_true rfl, Nat.le_of_ble_eq_true rfl⟩ rfl rfl (Nat.le_of_ble_eq_true rfl) ⟨hu40, hu41, rfl, rfl⟩ dX1_init_92 (sn_bV (fun S42 => ?_)) sn_x0
  refine sn_oputF hO fX1_39 (fun _ _ _ h => by cases h; rfl) rfl rfl dX1_init_95 (fun S43 => ?_)
  refine sn_aload_n hO 0 rfl dX1_init_98 ?_
  refine sn_iconst hO kc_m1 dX1_init_99 ?_
  refine sn_oput hO fX1_43 rfl rfl dX1_init_100 (fun S44 => ?_)
  subst hQq
  exact sn_vret hO rfl dX1_init_103
theorem ctX1_init {w : sn_W} {n : Nat} {a0 : Nat} {S : sn_S} {mc : Nat} {ms : Nat} {Q : sn_S → Prop} (h : wpX1_init w a0 S mc ms Q) : sn_Ct (LoN n) w yX1_init (ws_ yX1_init cX1_init 1 none) (rmX1_init mc ms) [.ref a0] S (sn_qV Q) sn_noE := sn_Ct_of (XX_O w) (by decide) (Nat.le_of_ble_eq_true rfl) RX1 rfl (fun C hO => wkX1_init hO a0 S mc ms Q h)
def rmX1_rows_AK : Room := { frames := 1, cells := 0, slots := 0, locals := 64 }
/-- SnailPost$State.rows([I[I)V -/
def wpX1_rows_AK (w : sn_W) (a1 : Nat) (k2r : Nat) (n2 : Nat) (S : sn_S) (Q : sn_S → Prop) : Prop :=
  (sn_al w S a1 0 (fun x10 => (sn_cKA w S k2r a1 0 n2 .int 0 0 x10 (fun S11 => Q S11))))
theorem wkX1_rows_AK {w : sn_W} {C : sn_C} (hO : sn_Ok LoX w C RX1 cX1_rows 2 none [] "rows") (a1 : Nat) (k2r : Nat) (n2 : Nat) (S : sn_S) (hk2 : sn_At LoX k2r (.inr (0, n2, 0))) (Q : sn_S → Prop) : wpX1_rows_AK w a1 k2r n2 S Q → sn_G LoX w rmX1_rows_AK (sn_qV Q) sn_noE C 0 0 0 [(0, .ref a1), (1, .ref (w.2.2.1 k2r))] [] S := by
  unfold wpX1_rows_AK
  generalize hQq : (sn_qV Q) = Qq
  refine sn_aload_n hO 1 rfl dX1_rows_0 ?_
  refine sn_iconst hO kc_0 dX1_rows_1 ?_
  refine sn_aload_n hO 0 rfl dX1_rows_2 ?_
  refine sn_iconst hO kc_0 dX1_rows_3 ?_
  refine sn_aload_n hO 0 rfl dX1_rows_4 ?_
  refine sn_oalen (t := 0) hO rfl dX1_rows_5 (fun x10 => ?_)
  refine sn_copyKA hO hk2 rfl rfl q592 q594 q593 q136 ⟨Nat.le_of_ble_eq_true rfl, Nat.le_trans (m := 64) (by decide) (Nat.le_of_ble_eq_true rfl)⟩ dX1_rows_6 (fun S11 => ?_)
  subst hQq
  exact sn_vret hO rfl dX1_rows_9
theorem ctX1_rows_AK {w : sn_W} {a1 : Nat} {k2r : Nat} {n2 : Nat} (hk2 : sn_At LoX k2r (.inr (0, n2, 0))) {S : sn_S} {Q : sn_S → Prop} (h : wpX1_rows_AK w a1 k2r n2 S Q) : sn_Ct LoX w yX1_rows (ws_ yX1_rows cX1_rows 2 none) rmX1_rows_AK [.ref a1, .ref (w.2.2.1 k2r)] S (sn_qV Q) sn_noE := sn_Ct_of (XX_O w) (by decide) (Nat.le_of_ble_eq_true rfl) RX1 rfl (fun C hO => wkX1_rows_AK hO a1 k2r n2 S hk2 Q h)
def rmX1_rows_KA : Room := { frames := 1, cells := 0, slots := 0, locals := 64 }
/-- SnailPost$State.rows([I[I)V -/
def wpX1_rows_KA (w : sn_W) (k1r : Nat) (n1 : Nat) (a2 : Nat) (S : sn_S) (Q : sn_S → Prop) : Prop :=
  (sn_cAK w S a2 k1r 0 n1 .int 0 0 (Int32.ofNat n1) (fun S10 => Q S10))
theorem wkX1_rows_KA {w : sn_W} {C : sn_C} (hO : sn_Ok LoX w C RX1 cX1_rows 2 none [] "rows") (k1r : Nat) (n1 : Nat) (a2 : Nat) (S : sn_S) (hk1 : sn_At LoX k1r (.inr (0, n1, 0))) (Q : sn_S → Prop) : wpX1_rows_KA w k1r n1 a2 S Q → sn_G LoX w rmX1_rows_KA (sn_qV Q) sn_noE C 0 0 0 [(0, .ref (w.2.2.1 k1r)), (1, .ref a2)] [] S := by
  unfold wpX1_rows_KA
  generalize hQq : (sn_qV Q) = Qq
  refine sn_aload_n hO 1 rfl dX1_rows_0 ?_
  refine sn_iconst hO kc_0 dX1_rows_1 ?_
  refine sn_aload_n hO 0 rfl dX1_rows_2 ?_
  refine sn_iconst hO kc_0 dX1_rows_3 ?_
  refine sn_aload_n hO 0 rfl dX1_rows_4 ?_
  refine sn_alen hO hk1 rfl rfl dX1_rows_5 ?_
  refine sn_copyAK hO hk1 rfl rfl q592 q594 q593 q136 ⟨Nat.le_of_ble_eq_true rfl, Nat.le_trans (m := 64) (by decide) (Nat.le_of_ble_eq_true rfl)⟩ dX1_rows_6 (fun S10 => ?_)
  subst hQq
  exact sn_vret hO rfl dX1_rows_9
theorem ctX1_rows_KA {w : sn_W} {k1r : Nat} {n1 : Nat} {a2 : Nat} (hk1 : sn_At LoX k1r (.inr (0, n1, 0))) {S : sn_S} {Q : sn_S → Prop} (h : wpX1_rows_KA w k1r n1 a2 S Q) : sn_Ct LoX w yX1_rows (ws_ yX1_rows cX1_rows 2 none) rmX1_rows_KA [.ref (w.2.2.1 k1r), .ref a2] S (sn_qV Q) sn_noE := sn_Ct_of (XX_O w) (by decide) (Nat.le_of_ble_eq_true rfl) RX1 rfl (fun C hO => wkX1_rows_KA hO k1r n1 a2 S hk1 Q h)
def rmJ2_clear : Room := { frames := 0, cells := 0, slots := 0, locals := 0 }
/-- java/util/ArrayList.clear()V -/
def wpJ2_clear (w : sn_W) (a0 : Nat) (S : sn_S) (Q : sn_S → Prop) : Prop :=
  (sn_gI S a0 9 0 (fun x10 => (sn_sV S a0 9 0 (.int (x10 + 1)) (fun S11 => (sn_gA S11 a0 9 1 (fun a12 => (sn_gI S11 a0 9 2 (fun x13 => (sn_sV S11 a0 9 2 (.int 0) (fun S14 => sn_lp2 (fun (rc17 : Int32 → sn_S → Prop) (i15 : Int32) (S16 : sn_S) => ((x13 ≤ i15 → Q S16) ∧ (¬ x13 ≤ i15 → (sn_uQ w S16 a12 4 i15 none (fun S18 => rc17 (i15 + 1) S18))))) 0 S14))))))))))
theorem wkJ2_clear {w : sn_W} {C : sn_C} (hO : sn_Ok LoX w C RJ2 cJ2_clear 4 none [] "clear") (a0 : Nat) (S : sn_S) (Q : sn_S → Prop) : wpJ2_clear w a0 S Q → sn_G LoX w rmJ2_clear (sn_qV Q) sn_noE C 0 0 0 [(0, .ref a0)] [] S := by
  unfold wpJ2_clear
  generalize hQq : (sn_qV Q) = Qq
  refine sn_aload_n hO 0 rfl dJ2_clear_0 ?_
  refine sn_dup hO rfl dJ2_clear_1 ?_
  refine sn_ogetS hO fJ2_63 dJ2_clear_2 (fun x10 => ?_)
  refine sn_iconst hO kc_1 dJ2_clear_5 ?_
  refine sn_iadd hO dJ2_clear_6 ?_
  refine sn_oputS hO fJ2_63 rfl rfl dJ2_clear_7 (fun S11 => ?_)
  refine sn_aload_n hO 0 rfl dJ2_clear_10 ?_
  refine sn_ogetA hO fJ2_9 dJ2_clear_11 (fun a12 => ?_)
  refine sn_astore_n hO (lv' := [(1, .ref a12), (0, .ref a0)]) (by decide) rfl dJ2_clear_14 ?_
  refine sn_aload_n hO 1 rfl dJ2_clear_15 ?_
  refine sn_ogetI hO fJ2_48 dJ2_clear_16 (fun x13 => ?_)
  refine sn_istore_n hO (lv' := [(2, .int x13), (1, .ref a12), (0, .ref a0)]) (by decide) rfl dJ2_clear_19 ?_
  refine sn_aload_n hO 2 rfl dJ2_clear_20 ?_
  refine sn_iconst hO kc_0 dJ2_clear_21 ?_
  refine sn_dup_x1 hO rfl rfl dJ2_clear_22 ?_
  refine sn_oput hO fJ2_48 rfl rfl dJ2_clear_23 (fun S14 => ?_)
  refine sn_istore_n hO (lv' := [(3, .int 0), (2, .int x13), (1, .ref a12), (0, .ref a0)]) (by decide) rfl dJ2_clear_26 ?_
  refine sn_sub [2, 1, 0] rfl ?_
  refine sn_lp2_walk (Gd := fun (i15 : Int32) (S16 : sn_S) => sn_G LoX w rmJ2_clear Qq sn_noE C 0 0 27 [(1, .ref a12), (2, .int x13), (3, .int i15)] [] S16) ?_ _ _
  intro rc17 hrc17 i15 S16
  refine sn_iload_n hO 2 rfl dJ2_clear_27 ?_
  refine sn_iload_n hO 1 rfl dJ2_clear_28 ?_
  refine sn_icmp_ge hO 42 (by decide) dJ2_clear_29 ?_ ?_
  · subst hQq
    exact sn_vret hO rfl dJ2_clear_42
  · refine sn_aload_n hO 0 rfl dJ2_clear_32 ?_
    refine sn_iload_n hO 2 rfl dJ2_clear_33 ?_
    refine sn_null hO dJ2_clear_34 ?_
    refine sn_oastN hO rfl dJ2_clear_35 (fun S18 => ?_)
    refine sn_iinc hO (lv' := [(3, .int (i15 + 1)), (1, .ref a12), (2, .int x13)]) 2 rfl ki_1 (by decide) rfl dJ2_clear_36 ?_
    refine sn_goto hO 27 (by decide) dJ2_clear_39 ?_
    refine sn_sub [1, 2, 0] rfl ?_
    exact hrc17 _ _
theorem ctJ2_clear {w : sn_W} {a0 : Nat} {S : sn_S} {Q : sn_S → Prop} (h : wpJ2_clear w a0 S Q) : sn_Ct LoX w yJ2_clear (ws_ yJ2_clear cJ2_clear 4 none) rmJ2_clear [.ref a0] S (sn_qV Q) sn_noE := sn_Ct_of (XX_O w) (by decide) (Nat.le_of_ble_eq_true rfl) RJ2 rfl (fun C hO => wkJ2_clear hO a0 S Q h)
def rmJ11_copyOf_2 (mc ms : Nat) : Room := { frames := 1, cells := mc, slots := ms, locals := 64 }
/-- java/util/Arrays.copyOf([Ljava/lang/Object;ILjava/lang/Class;)[Ljava/lang/Object; -/
def wpJ11_copyOf_2 (w : sn_W) (a1 : Nat) (p2 : Int32) (S : sn_S) (mc : Nat) (ms : Nat) (Q : Nat → sn_S → Prop) : Prop :=
  ((¬ (some w.2.2.2.2.2.2) = (some w.2.2.2.2.2.2) → False) ∧ ((some w.2.2.2.2.2.2) = (some w.2.2.2.2.2.2) → (¬ p2 < 0 ∧ (p2).toNatClampNeg * 4 ≤ 536870912 ∧ sn_nw S mc ms (p2).toNatClampNeg (.inl (w.2.1 4, (p2).toNatClampNeg, .inr (.inr (.inr (.inr (fun _ => none)))))) (fun a10 S11 => (sn_al w S11 a1 4 (fun x12 => (sn_cAA w S11 a1 a10 4 0 0 (if p2 < x12 then p2 else x12) (fun S13 => Q a10 S13))))))))
theorem wkJ11_copyOf_2 {w : sn_W} {C : sn_C} (hO : sn_Ok LoX w C RJ11 cJ11_copyOf_2 4 (some (.array (.object "java/lang/Object"))) [] "copyOf") (a1 : Nat) (p2 : Int32) (S : sn_S) (mc : Nat) (ms : Nat) (Q : Nat → sn_S → Prop) : wpJ11_copyOf_2 w a1 p2 S mc ms Q → sn_G LoX w (rmJ11_copyOf_2 mc ms) (sn_qA Q) sn_noE C mc ms 0 [(0, .ref a1), (1, .int p2), (2, .ref w.2.2.2.2.2.2)] [] S := by
  unfold wpJ11_copyOf_2
  generalize hQq : (sn_qA Q) = Qq
  refine sn_aload_n hO 2 rfl dJ11_copyOf_2_0 ?_
  refine sn_ldcM hO miX q644 dJ11_copyOf_2_1 ?_
  refine sn_acmp_ne (rx := (some w.2.2.2.2.2.2)) (ry := (some w.2.2.2.2.2.2)) hO 13 (by decide) dJ11_copyOf_2_3 ?_ ?_
  · exact sn_no (fun h => h)
  · refine sn_iload_n hO 1 rfl dJ11_copyOf_2_6 ?_
    refine sn_newq (t := 4) hO q645 aoX_4 rfl dJ11_copyOf_2_7 (fun a10 S11 => ?_)
    refine sn_goto hO 24 (by decide) dJ11_copyOf_2_10 ?_
    refine sn_astore_n hO (lv' := [(3, .ref a10), (0, .ref a1), (1, .int p2), (2, .ref w.2.2.2.2.2.2)]) (by decide) rfl dJ11_copyOf_2_24 ?_
    refine sn_aload_n hO 1 rfl dJ11_copyOf_2_25 ?_
    refine sn_iconst hO kc_0 dJ11_copyOf_2_26 ?_
    refine sn_aload_n hO 0 rfl dJ11_copyOf_2_27 ?_
    refine sn_iconst hO kc_0 dJ11_copyOf_2_28 ?_
    refine sn_aload_n hO 1 rfl dJ11_copyOf_2_29 ?_
    refine sn_oalen (t := 4) hO rfl dJ11_copyOf_2_30 (fun x12 => ?_)
    refine sn_iload_n hO 2 rfl dJ11_copyOf_2_31 ?_
    refine sn_mMin hO q646 q647 q134 q648 ⟨Nat.le_of_ble_eq_true rfl, Nat.le_of_ble_eq_true rfl⟩ dJ11_copyOf_2_32 ?_
    refine sn_copyAA hO rfl anyX q649 q594 q593 q136 ⟨Nat.le_of_ble_eq_true rfl, Nat.le_trans (m := 64) (by decide) (Nat.le_of_ble_eq_true rfl)⟩ dJ11_copyOf_2_35 (fun S13 => ?_)
    refine sn_aload_n hO 0 rfl dJ11_copyOf_2_38 ?_
    subst hQq
    exact sn_aret hO rfl (Or.inr ⟨_, rfl⟩) dJ11_copyOf_2_39
theorem ctJ11_copyOf_2 {w : sn_W} {a1 : Nat} {p2 : Int32} {S : sn_S} {mc : Nat} {ms : Nat} {Q : Nat → sn_S → Prop} (h : wpJ11_copyOf_2 w a1 p2 S mc ms Q) : sn_Ct LoX w yJ11_copyOf_2 (ws_ yJ11_copyOf_2 cJ11_copyOf_2 4 (some (.array (.object "java/lang/Object")))) (rmJ11_copyOf_2 mc ms) [.ref a1, .int p2, .ref w.2.2.2.2.2.2] S (sn_qA Q) sn_noE := sn_Ct_of (XX_O w) (by decide) (Nat.le_of_ble_eq_true rfl) RJ11 rfl (fun C hO => wkJ11_copyOf_2 hO a1 p2 S mc ms Q h)
def rmJ11_copyOf (mc ms : Nat) : Room := { frames := 2, cells := mc, slots := ms, locals := 87 }
/-- java/util/Arrays.copyOf([Ljava/lang/Object;I)[Ljava/lang/Object; -/
def wpJ11_copyOf (w : sn_W) (a1 : Nat) (p2 : Int32) (S : sn_S) (mc : Nat) (ms : Nat) (Q : Nat → sn_S → Prop) : Prop :=
  ((∃ n f, sn_oR S a1 (w.2.1 4, n, f)) ∧ (∃ u10 u11 : Nat, u10 ≤ mc ∧ u11 ≤ ms ∧ wpJ11_copyOf_2 w a1 p2 S u10 u11 (fun (a12 : Nat) (S13 : sn_S) => Q a12 S13)))
theorem wkJ11_copyOf {w : sn_W} {C : sn_C} (hO : sn_Ok LoX w C RJ11 cJ11_copyOf 2 (some (.array (.object "java/lang/Object"))) [] "copyOf") (a1 : Nat) (p2 : Int32) (S : sn_S) (mc : Nat) (ms : Nat) (Q : Nat → sn_S → Prop) : wpJ11_copyOf w a1 p2 S mc ms Q → sn_G LoX w (rmJ11_copyOf mc ms) (sn_qA Q) sn_noE C mc ms 0 [(0, .ref a1), (1, .int p2)] [] S := by
  unfold wpJ11_copyOf
  generalize hQq : (sn_qA Q) = Qq
  refine sn_aload_n hO 0 rfl dJ11_copyOf_0 ?_
  refine sn_iload_n hO 1 rfl dJ11_copyOf_1 ?_
  refine sn_aload_n hO 0 rfl dJ11_copyOf_2 ?_
  refine sn_getC (t := 4) hO miX dgX rfl rfl q616 q2098 q617 q640 ⟨Nat.le_of_ble_eq_true rfl, Nat.le_of_ble_eq_true rfl⟩ dJ11_copyOf_3 ?_
  refine sn_bud (fun u10 u11 hu10 hu11 => ?_)
  refine sn_callS hO (c2 := (mc - u10)) (s2 := (ms - u11)) (rm := (rmJ11_copyOf_2 u10 u11)) [.ref a1, .int p2, .ref w.2.2.2.2.2.2] csJ11_300 (fun h => ctJ11_copyOf_2 h) ⟨Nat.le_of_ble_eq_true rfl, Nat.le_of_ble_eq_true rfl⟩ rfl rfl (Nat.le_of_ble_eq_true rfl) ⟨hu10, hu11, rfl, rfl⟩ dJ11_copyOf_6 (sn_bA (fun a12 S13 => ?_)) sn_x0
  subst hQq
  exact sn_aret hO rfl (Or.inr ⟨_, rfl⟩) dJ11_copyOf_9
theorem ctJ11_copyOf {w : sn_W} {a1 : Nat} {p2 : Int32} {S : sn_S} {mc : Nat} {ms : Nat} {Q : Nat → sn_S → Prop} (h : wpJ11_copyOf w a1 p2 S mc ms Q) : sn_Ct LoX w yJ11_copyOf (ws_ yJ11_copyOf cJ11_copyOf 2 (some (.array (.object "java/lang/Object")))) (rmJ11_copyOf mc ms) [.ref a1, .int p2] S (sn_qA Q) sn_noE := sn_Ct_of (XX_O w) (by decide) (Nat.le_of_ble_eq_true rfl) RJ11 rfl (fun C hO => wkJ11_copyOf hO a1 p2 S mc ms Q h)
def rmJ2_toArray (mc ms : Nat) : Room := { frames := 3, cells := mc, slots := ms, locals := 108 }
/-- java/util/ArrayList.toArray()[Ljava/lang/Object; -/
def wpJ2_toArray (w : sn_W) (a0 : Nat) (S : sn_S) (mc : Nat) (ms : Nat) (Q : Nat → sn_S → Prop) : Prop :=
  (sn_gA S a0 9 1 (fun a10 => (sn_gI S a0 9 2 (fun x11 => (∃ u12 u13 : Nat, u12 ≤ mc ∧ u13 ≤ ms ∧ wpJ11_copyOf w a10 x11 S u12 u13 (fun (a14 : Nat) (S15 : sn_S) => Q a14 S15))))))
theorem wkJ2_toArray {w : sn_W} {C : sn_C} (hO : sn_Ok LoX w C RJ2 cJ2_toArray 1 (some (.array (.object "java/lang/Object"))) [] "toArray") (a0 : Nat) (S : sn_S) (mc : Nat) (ms : Nat) (Q : Nat → sn_S → Prop) : wpJ2_toArray w a0 S mc ms Q → sn_G LoX w (rmJ2_toArray mc ms) (sn_qA Q) sn_noE C mc ms 0 [(0, .ref a0)] [] S := by
  unfold wpJ2_toArray
  generalize hQq : (sn_qA Q) = Qq
  refine sn_aload_n hO 0 rfl dJ2_toArray_0 ?_
  refine sn_ogetA hO fJ2_9 dJ2_toArray_1 (fun a10 => ?_)
  refine sn_aload_n hO 0 rfl dJ2_toArray_4 ?_
  refine sn_ogetI hO fJ2_48 dJ2_toArray_5 (fun x11 => ?_)
  refine sn_bud (fun u12 u13 hu12 hu13 => ?_)
  refine sn_callS hO (c2 := (mc - u12)) (s2 := (ms - u13)) (rm := (rmJ11_copyOf u12 u13)) [.ref a10, .int x11] csJ2_66 (fun h => ctJ11_copyOf h) ⟨Nat.le_of_ble_eq_true rfl, Nat.le_of_ble_eq_true rfl⟩ rfl rfl (Nat.le_of_ble_eq_true rfl) ⟨hu12, hu13, rfl, rfl⟩ dJ2_toArray_8 (sn_bA (fun a14 S15 => ?_)) sn_x0
  subst hQq
  exact sn_aret hO rfl (Or.inr ⟨_, rfl⟩) dJ2_toArray_11
theorem ctJ2_toArray {w : sn_W} {a0 : Nat} {S : sn_S} {mc : Nat} {ms : Nat} {Q : Nat → sn_S → Prop} (h : wpJ2_toArray w a0 S mc ms Q) : sn_Ct LoX w yJ2_toArray (ws_ yJ2_toArray cJ2_toArray 1 (some (.array (.object "java/lang/Object")))) (rmJ2_toArray mc ms) [.ref a0] S (sn_qA Q) sn_noE := sn_Ct_of (XX_O w) (by decide) (Nat.le_of_ble_eq_true rfl) RJ2 rfl (fun C hO => wkJ2_toArray hO a0 S mc ms Q h)
def rmJ9_newLength : Room := { frames := 1, cells := 0, slots := 0, locals := 64 }
/-- jdk/internal/util/ArraysSupport.newLength(III)I -/
def wpJ9_newLength (w : sn_W) (p1 : Int32) (p2 : Int32) (p3 : Int32) (Q : Int32 → Prop) : Prop :=
  sn_lt (p1 + (if p2 < p3 then p3 else p2)) (fun x10 => ((x10 ≤ (0 : Int32) → False) ∧ (¬ x10 ≤ (0 : Int32) → ((2147483639 < x10 → False) ∧ (¬ 2147483639 < x10 → Q x10)))))
theorem wkJ9_newLength {w : sn_W} {C : sn_C} (hO : sn_Ok LoX w C RJ9 cJ9_newLength 4 (some .int) [] "newLength") (p1 : Int32) (p2 : Int32) (p3 : Int32) (S : sn_S) (Q : Int32 → Prop) : wpJ9_newLength w p1 p2 p3 Q → sn_G LoX w rmJ9_newLength (sn_qI (fun r S1 => S1 = S ∧ Q r)) sn_noE C 0 0 0 [(0, .int p1), (1, .int p2), (2, .int p3)] [] S := by
  unfold wpJ9_newLength
  generalize hQq : (sn_qI (fun r S1 => S1 = S ∧ Q r)) = Qq
  refine sn_iload_n hO 0 rfl dJ9_newLength_0 ?_
  refine sn_iload_n hO 1 rfl dJ9_newLength_1 ?_
  refine sn_iload_n hO 2 rfl dJ9_newLength_2 ?_
  refine sn_mMax hO q659 q660 q134 q661 ⟨Nat.le_of_ble_eq_true rfl, Nat.le_of_ble_eq_true rfl⟩ dJ9_newLength_3 ?_
  refine sn_iadd hO dJ9_newLength_6 ?_
  refine sn_nmI (fun x10 => ?_)
  refine sn_istore_n hO (lv' := [(3, .int x10), (0, .int p1), (1, .int p2), (2, .int p3)]) (by decide) rfl dJ9_newLength_7 ?_
  refine sn_iconst hO kc_0 dJ9_newLength_8 ?_
  refine sn_iload_n hO 0 rfl dJ9_newLength_9 ?_
  refine sn_icmp_ge hO 21 (by decide) dJ9_newLength_10 ?_ ?_
  · exact sn_no (fun h => h)
  · refine sn_iload_n hO 0 rfl dJ9_newLength_13 ?_
    refine sn_ldc hO q662 dJ9_newLength_14 ?_
    refine sn_icmp_gt hO 21 (by decide) dJ9_newLength_16 ?_ ?_
    · exact sn_no (fun h => h)
    · refine sn_iload_n hO 0 rfl dJ9_newLength_19 ?_
      subst hQq
      exact fun h => sn_iret hO rfl dJ9_newLength_20 ⟨rfl, h⟩
theorem ctJ9_newLength {w : sn_W} {p1 : Int32} {p2 : Int32} {p3 : Int32} {S : sn_S} {Q : Int32 → Prop} (h : wpJ9_newLength w p1 p2 p3 Q) : sn_Ct LoX w yJ9_newLength (ws_ yJ9_newLength cJ9_newLength 4 (some .int)) rmJ9_newLength [.int p1, .int p2, .int p3] S (sn_qI (fun r S1 => S1 = S ∧ Q r)) sn_noE := sn_Ct_of (XX_O w) (by decide) (Nat.le_of_ble_eq_true rfl) RJ9 rfl (fun C hO => wkJ9_newLength hO p1 p2 p3 S Q h)
def rmJ2_grow (mc ms : Nat) : Room := { frames := 3, cells := mc, slots := ms, locals := 108 }
/-- java/util/ArrayList.grow(I)[Ljava/lang/Object; -/
def wpJ2_grow (w : sn_W) (a0 : Nat) (p1 : Int32) (S : sn_S) (mc : Nat) (ms : Nat) (Q : Nat → sn_S → Prop) : Prop :=
  (sn_gA S a0 9 1 (fun a10 => (sn_al w S a10 4 (fun x11 => ((0 < x11 → wpJ9_newLength w x11 (p1 - x11) (x11 >>> (1 &&& 31)) (fun (r12 : Int32) => (sn_gA S a0 9 1 (fun a13 => (∃ u14 u15 : Nat, u14 ≤ mc ∧ u15 ≤ ms ∧ wpJ11_copyOf w a13 r12 S u14 u15 (fun (a16 : Nat) (S17 : sn_S) => (sn_sV S17 a0 9 1 (.ref a16) (fun S18 => Q a16 S18)))))))) ∧ (¬ 0 < x11 → False))))))
theorem wkJ2_grow {w : sn_W} {C : sn_C} (hO : sn_Ok LoX w C RJ2 cJ2_grow 4 (some (.array (.object "java/lang/Object"))) [] "grow") (a0 : Nat) (p1 : Int32) (S : sn_S) (mc : Nat) (ms : Nat) (Q : Nat → sn_S → Prop) : wpJ2_grow w a0 p1 S mc ms Q → sn_G LoX w (rmJ2_grow mc ms) (sn_qA Q) sn_noE C mc ms 0 [(0, .ref a0), (1, .int p1)] [] S := by
  unfold wpJ2_grow
  generalize hQq : (sn_qA Q) = Qq
  refine sn_aload_n hO 0 rfl dJ2_grow_0 ?_
  refine sn_ogetA hO fJ2_9 dJ2_grow_1 (fun a10 => ?_)
  refine sn_oalen (t := 4) hO rfl dJ2_grow_4 (fun x11 => ?_)
  refine sn_istore_n hO (lv' := [(2, .int x11), (0, .ref a0), (1, .int p1)]) (by decide) rfl dJ2_grow_5 ?_
  refine sn_iload_n hO 0 rfl dJ2_grow_6 ?_
  refine sn_if_gt hO 20 (by decide) dJ2_grow_7 ?_ ?_
  · refine sn_iload_n hO 0 rfl dJ2_grow_20 ?_
    refine sn_iload_n hO 2 rfl dJ2_grow_21 ?_
    refine sn_iload_n hO 0 rfl dJ2_grow_22 ?_
    refine sn_isub hO dJ2_grow_23 ?_
    refine sn_iload_n hO 0 rfl dJ2_grow_24 ?_
    refine sn_iconst hO kc_1 dJ2_grow_25 ?_
    refine sn_ishr hO dJ2_grow_26 ?_
    refine sn_callS hO (c2 := mc) (s2 := ms) (rm := rmJ9_newLength) [.int x11, .int (p1 - x11), .int (x11 >>> (1 &&& 31))] csJ2_73 (fun h => ctJ9_newLength h) ⟨Nat.le_of_ble_eq_true rfl, Nat.le_of_ble_eq_true rfl⟩ rfl rfl (Nat.le_of_ble_eq_true rfl) ⟨Nat.zero_le _, Nat.zero_le _, rfl, rfl⟩ dJ2_grow_27 (sn_bIp (fun r12 => ?_)) sn_x0
    refine sn_istore_n hO (lv' := [(3, .int r12), (2, .int x11), (0, .ref a0), (1, .int p1)]) (by decide) rfl dJ2_grow_30 ?_
    refine sn_aload_n hO 2 rfl dJ2_grow_31 ?_
    refine sn_aload_n hO 2 rfl dJ2_grow_32 ?_
    refine sn_ogetA hO fJ2_9 dJ2_grow_33 (fun a13 => ?_)
    refine sn_iload_n hO 0 rfl dJ2_grow_36 ?_
    refine sn_bud (fun u14 u15 hu14 hu15 => ?_)
    refine sn_callS hO (c2 := (mc - u14)) (s2 := (ms - u15)) (rm := (rmJ11_copyOf u14 u15)) [.ref a13, .int r12] csJ2_66 (fun h => ctJ11_copyOf h) ⟨Nat.le_of_ble_eq_true rfl, Nat.le_of_ble_eq_true rfl⟩ rfl rfl (Nat.le_of_ble_eq_true rfl) ⟨hu14, hu15, rfl, rfl⟩ dJ2_grow_37 (sn_bA (fun a16 S17 => ?_)) sn_x0
    refine sn_dup_x1 hO rfl rfl dJ2_grow_40 ?_
    refine sn_oput hO fJ2_9 rfl rfl dJ2_grow_41 (fun S18 => ?_)
    subst hQq
    exact sn_aret hO rfl (Or.inr ⟨_, rfl⟩) dJ2_grow_44
  · exact sn_no (fun h => h)
theorem ctJ2_grow {w : sn_W} {a0 : Nat} {p1 : Int32} {S : sn_S} {mc : Nat} {ms : Nat} {Q : Nat → sn_S → Prop} (h : wpJ2_grow w a0 p1 S mc ms Q) : sn_Ct LoX w yJ2_grow (ws_ yJ2_grow cJ2_grow 4 (some (.array (.object "java/lang/Object")))) (rmJ2_grow mc ms) [.ref a0, .int p1] S (sn_qA Q) sn_noE := sn_Ct_of (XX_O w) (by decide) (Nat.le_of_ble_eq_true rfl) RJ2 rfl (fun C hO => wkJ2_grow hO a0 p1 S mc ms Q h)
def rmJ2_addAll (mc ms : Nat) : Room := { frames := 4, cells := mc, slots := ms, locals := 131 }
/-- java/util/ArrayList.addAll(Ljava/util/Collection;)Z -/
def wpJ2_addAll (w : sn_W) (a0 : Nat) (a1 : Nat) (S : sn_S) (mc : Nat) (ms : Nat) (Q : Int32 → sn_S → Prop) : Prop :=
  (∃ u10 u11 : Nat, u10 ≤ mc ∧ u11 ≤ ms ∧ ((∃ fs, sn_oO S a1 9 fs) ∧ wpJ2_toArray w a1 S u10 u11 (fun (a12 : Nat) (S13 : sn_S) => (sn_gI S13 a0 9 0 (fun x14 => (sn_sV S13 a0 9 0 (.int (x14 + 1)) (fun S15 => (sn_al w S15 a12 4 (fun x16 => ((¬ x16 = 0 → (sn_gA S15 a0 9 1 (fun a17 => (sn_al w S15 a17 4 (fun x18 => (sn_gI S15 a0 9 2 (fun x19 => sn_jn (fun (v20 : Nat) (m22 : Nat) (m23 : Nat) (S21 : sn_S) => (sn_cAA w S21 a12 v20 4 0 x19 x16 (fun S25 => (sn_sV S25 a0 9 2 (.int (x19 + x16)) (fun S26 => Q 1 S26))))) (fun (k24 : Nat → Nat → Nat → sn_S → Prop) => ((x16 ≤ (x18 - x19) → k24 a17 (mc - u10) (ms - u11) S15) ∧ (¬ x16 ≤ (x18 - x19) → (∃ u27 u28 : Nat, u27 ≤ (mc - u10) ∧ u28 ≤ (ms - u11) ∧ ((∃ fs, sn_oO S15 a0 9 fs) ∧ wpJ2_grow w a0 (x19 + x16) S15 u27 u28 (fun (a29 : Nat) (S30 : sn_S) => k24 a29 ((mc - u10) - u27) ((ms - u11) - u28) S30))))))))))))) ∧ (x16 = 0 → Q 0 S15)))))))))))
theorem wkJ2_addAll {w : sn_W} {C : sn_C} (hO : sn_Ok LoX w C RJ2 cJ2_addAll 6 (some .boolean) [] "addAll") (a0 : Nat) (a1 : Nat) (S : sn_S) (mc : Nat) (ms : Nat) (Q : Int32 → sn_S → Prop) : wpJ2_addAll w a0 a1 S mc ms Q → sn_G LoX w (rmJ2_addAll mc ms) (sn_qI Q) sn_noE C mc ms 0 [(0, .ref a0), (1, .ref a1)] [] S := by
  unfold wpJ2_addAll
  generalize hQq : (sn_qI Q) = Qq
  refine sn_aload_n hO 1 rfl dJ2_addAll_0 ?_
  refine sn_bud (fun u10 u11 hu10 hu11 => ?_)
  refine sn_callF (P := (∃ fs, sn_oO S a1 9 fs) ∧ _) hO (c2 := (mc - u10)) (s2 := (ms - u11)) (rm := (rmJ2_toArray u10 u11)) [] cfJ2_42 sn_RvP (fun h => ctJ2_toArray h.2) ⟨Nat.le_of_ble_eq_true rfl, Nat.le_of_ble_eq_true rfl⟩ rfl rfl (Nat.le_of_ble_eq_true rfl) ⟨hu10, hu11, rfl, rfl⟩ dJ2_addAll_1 (sn_bA (fun a12 S13 => ?_)) sn_x0
  refine sn_astore_n hO (lv' := [(2, .ref a12), (0, .ref a0), (1, .ref a1)]) (by decide) rfl dJ2_addAll_6 ?_
  refine sn_aload_n hO 1 rfl dJ2_addAll_7 ?_
  refine sn_dup hO rfl dJ2_addAll_8 ?_
  refine sn_ogetS hO fJ2_63 dJ2_addAll_9 (fun x14 => ?_)
  refine sn_iconst hO kc_1 dJ2_addAll_12 ?_
  refine sn_iadd hO dJ2_addAll_13 ?_
  refine sn_oputS hO fJ2_63 rfl rfl dJ2_addAll_14 (fun S15 => ?_)
  refine sn_aload_n hO 0 rfl dJ2_addAll_17 ?_
  refine sn_oalen (t := 4) hO rfl dJ2_addAll_18 (fun x16 => ?_)
  refine sn_istore_n hO (lv' := [(3, .int x16), (2, .ref a12), (0, .ref a0), (1, .ref a1)]) (by decide) rfl dJ2_addAll_19 ?_
  refine sn_iload_n hO 0 rfl dJ2_addAll_20 ?_
  refine sn_if_ne hO 26 (by decide) dJ2_addAll_21 ?_ ?_
  · refine sn_iload_n hO 0 rfl dJ2_addAll_26 ?_
    refine sn_aload_n hO 2 rfl dJ2_addAll_27 ?_
    refine sn_ogetA hO fJ2_9 dJ2_addAll_28 (fun a17 => ?_)
    refine sn_dup hO rfl dJ2_addAll_31 ?_
    refine sn_astore hO (lv' := [(4, .ref a17), (3, .int x16), (2, .ref a12), (0, .ref a0), (1, .ref a1)]) (by decide) rfl dJ2_addAll_32 ?_
    refine sn_oalen (t := 4) hO rfl dJ2_addAll_34 (fun x18 => ?_)
    refine sn_aload_n hO 3 rfl dJ2_addAll_35 ?_
    refine sn_ogetI hO fJ2_48 dJ2_addAll_36 (fun x19 => ?_)
    refine sn_dup hO rfl dJ2_addAll_39 ?_
    refine sn_istore hO (lv' := [(5, .int x19), (4, .ref a17), (3, .int x16), (2, .ref a12), (0, .ref a0), (1, .ref a1)]) (by decide) rfl dJ2_addAll_40 ?_
    refine sn_isub hO dJ2_addAll_42 ?_
    refine sn_jn_walk (fun (k : Nat → Nat → Nat → sn_S → Prop) => ∀ (v20 : Nat) (m22 : Nat) (m23 : Nat) (S21 : sn_S), k v20 m22 m23 S21 → sn_G LoX w (rmJ2_addAll mc ms) Qq sn_noE C m22 m23 56 [(0, .ref a0), (2, .ref a12), (3, .int x16), (4, .ref v20), (5, .int x19)] [] S21) ?_ ?_
    · intro v20 m22 m23 S21
      refine sn_aload_n hO 1 rfl dJ2_addAll_56 ?_
      refine sn_iconst hO kc_0 dJ2_addAll_57 ?_
      refine sn_aload hO 3 rfl dJ2_addAll_58 ?_
      refine sn_iload hO 4 rfl dJ2_addAll_60 ?_
      refine sn_iload_n hO 2 rfl dJ2_addAll_62 ?_
      refine sn_copyAA hO rfl anyX q667 q594 q593 q136 ⟨Nat.le_of_ble_eq_true rfl, Nat.le_trans (m := 64) (by decide) (Nat.le_of_ble_eq_true rfl)⟩ dJ2_addAll_63 (fun S25 => ?_)
      refine sn_aload_n hO 0 rfl dJ2_addAll_66 ?_
      refine sn_iload hO 4 rfl dJ2_addAll_67 ?_
      refine sn_iload_n hO 2 rfl dJ2_addAll_69 ?_
      refine sn_iadd hO dJ2_addAll_70 ?_
      refine sn_oput hO fJ2_48 rfl rfl dJ2_addAll_71 (fun S26 => ?_)
      refine sn_iconst hO kc_1 dJ2_addAll_74 ?_
      subst hQq
      exact sn_zret hO (ty := .boolean) rfl rfl dJ2_addAll_75
    · intro k24 hk24
      refine sn_icmp_le hO 56 (by decide) dJ2_addAll_43 ?_ ?_
      · refine sn_sub [4, 3, 2, 1, 0] rfl ?_
        exact hk24 _ _ _ _
      · refine sn_aload_n hO 4 rfl dJ2_addAll_46 ?_
        refine sn_iload hO 0 rfl dJ2_addAll_47 ?_
        refine sn_iload_n hO 2 rfl dJ2_addAll_49 ?_
        refine sn_iadd hO dJ2_addAll_50 ?_
        refine sn_bud (fun u27 u28 hu27 hu28 => ?_)
        refine sn_callV (P := (∃ fs, sn_oO S15 a0 9 fs) ∧ _) hO (c2 := ((mc - u10) - u27)) (s2 := ((ms - u11) - u28)) (rm := (rmJ2_grow u27 u28)) [.int (x19 + x16)] cvJ2_69 sn_RvP (fun h => ctJ2_grow h.2) ⟨Nat.le_of_ble_eq_true rfl, Nat.le_of_ble_eq_true rfl⟩ rfl rfl (Nat.le_of_ble_eq_true rfl) ⟨hu27, hu28, rfl, rfl⟩ dJ2_addAll_51 (sn_bA (fun a29 S30 => ?_)) sn_x0
        refine sn_astore hO (lv' := [(4, .ref a29), (5, .int x19), (3, .int x16), (2, .ref a12), (0, .ref a0), (1, .ref a1)]) (by decide) rfl dJ2_addAll_54 ?_
        refine sn_sub [4, 3, 2, 0, 1] rfl ?_
        exact hk24 _ _ _ _
  · refine sn_iconst hO kc_0 dJ2_addAll_24 ?_
    subst hQq
    exact sn_zret hO (ty := .boolean) rfl rfl dJ2_addAll_25
theorem ctJ2_addAll {w : sn_W} {a0 : Nat} {a1 : Nat} {S : sn_S} {mc : Nat} {ms : Nat} {Q : Int32 → sn_S → Prop} (h : wpJ2_addAll w a0 a1 S mc ms Q) : sn_Ct LoX w yJ2_addAll (ws_ yJ2_addAll cJ2_addAll 6 (some .boolean)) (rmJ2_addAll mc ms) [.ref a0, .ref a1] S (sn_qI Q) sn_noE := sn_Ct_of (XX_O w) (by decide) (Nat.le_of_ble_eq_true rfl) RJ2 rfl (fun C hO => wkJ2_addAll hO a0 a1 S mc ms Q h)
def rmX1_takes_AK (mc ms : Nat) : Room := { frames := 5, cells := mc, slots := ms, locals := 156 }
/-- SnailPost$State.takes(LSnailPost$State;)V -/
def wpX1_takes_AK (w : sn_W) (a0 : Nat) (S : sn_S) (mc : Nat) (ms : Nat) (Q : sn_S → Prop) : Prop :=
  (sn_gQ S a0 1 0 (fun q10 => (sn_nn q10 (fun a11 => wpX1_rows_AK w a11 3 96 S (fun (S12 : sn_S) => (sn_gQ S12 a0 1 1 (fun q13 => (sn_nn q13 (fun a14 => wpX1_rows_AK w a14 4 36 S12 (fun (S15 : sn_S) => (sn_gQ S15 a0 1 2 (fun q16 => (sn_nn q16 (fun a17 => wpX1_rows_AK w a17 5 4 S15 (fun (S18 : sn_S) => (sn_gQ S18 a0 1 3 (fun q19 => (sn_nn q19 (fun a20 => wpX1_rows_AK w a20 6 5 S18 (fun (S21 : sn_S) => (sn_gQ S21 a0 1 4 (fun q22 => (sn_nn q22 (fun a23 => wpX1_rows_AK w a23 7 2 S21 (fun (S24 : sn_S) => (sn_gQ S24 a0 1 5 (fun q25 => (sn_nn q25 (fun a26 => wpX1_rows_AK w a26 8 24 S24 (fun (S27 : sn_S) => (sn_gQ S27 a0 1 6 (fun q28 => (sn_nn q28 (fun a29 => (sn_cKA w S27 9 a29 1 96 .boolean 0 0 96 (fun S30 => (sn_gQ S30 a0 1 7 (fun q31 => (sn_nn q31 (fun a32 => ((∃ fs, sn_oO S30 a32 9 fs) ∧ wpJ2_clear w a32 S30 (fun (S33 : sn_S) => (sn_gQ S33 a0 1 7 (fun q34 => (sn_nn q34 (fun a35 => (sn_nn (S33.2.2.1 2 7) (fun a36 => (∃ u37 u38 : Nat, u37 ≤ mc ∧ u38 ≤ ms ∧ ((∃ fs, sn_oO S33 a35 9 fs) ∧ wpJ2_addAll w a35 a36 S33 u37 u38 (fun (r39 : Int32) (S40 : sn_S) => (sn_sV S40 a0 1 8 (.int (S40.1 2 8)) (fun S41 => (sn_sV S41 a0 1 9 (.int (S41.1 2 9)) (fun S42 => (sn_sV S42 a0 1 10 (.int (S42.1 2 10)) (fun S43 => (sn_sV S43 a0 1 11 (.int (S43.1 2 11)) (fun S44 => Q S44)))))))))))))))))))))))))))))))))))))))))))))))))))))))))))
theorem wkX1_takes_AK {w : sn_W} {C : sn_C} (hO : sn_Ok LoX w C RX1 cX1_takes 2 none [] "takes") (a0 : Nat) (S : sn_S) (mc : Nat) (ms : Nat) (Q : sn_S → Prop) : wpX1_takes_AK w a0 S mc ms Q → sn_G LoX w (rmX1_takes_AK mc ms) (sn_qV Q) sn_noE C mc ms 0 [(0, .ref a0), (1, .ref (w.2.2.1 2))] [] S := by
  unfold wpX1_takes_AK
  generalize hQq : (sn_qV Q) = Qq
  refine sn_aload_n hO 0 rfl dX1_takes_0 ?_
  refine sn_ogetQ hO fX1_9 dX1_takes_1 (fun q10 => ?_)
  refine sn_deref (fun a11 => ?_)
  refine sn_aload_n hO 1 rfl dX1_takes_4 ?_
  refine sn_getF hO fX1_9 atX_2 dX1_takes_5 ?_
  refine sn_callS hO (c2 := mc) (s2 := ms) (rm := rmX1_rows_AK) [.ref a11, .ref (w.2.2.1 3)] csX1_53 (fun h => ctX1_rows_AK atX_3 h) ⟨Nat.le_of_ble_eq_true rfl, Nat.le_of_ble_eq_true rfl⟩ rfl rfl (Nat.le_of_ble_eq_true rfl) ⟨Nat.zero_le _, Nat.zero_le _, rfl, rfl⟩ dX1_takes_8 (sn_bV (fun S12 => ?_)) sn_x0
  refine sn_aload_n hO 0 rfl dX1_takes_11 ?_
  refine sn_ogetQ hO fX1_15 dX1_takes_12 (fun q13 => ?_)
  refine sn_deref (fun a14 => ?_)
  refine sn_aload_n hO 1 rfl dX1_takes_15 ?_
  refine sn_getF hO fX1_15 atX_2 dX1_takes_16 ?_
  refine sn_callS hO (c2 := mc) (s2 := ms) (rm := rmX1_rows_AK) [.ref a14, .ref (w.2.2.1 4)] csX1_53 (fun h => ctX1_rows_AK atX_4 h) ⟨Nat.le_of_ble_eq_true rfl, Nat.le_of_ble_eq_true rfl⟩ rfl rfl (Nat.le_of_ble_eq_true rfl) ⟨Nat.zero_le _, Nat.zero_le _, rfl, rfl⟩ dX1_takes_19 (sn_bV (fun S15 => ?_)) sn_x0
  refine sn_aload_n hO 0 rfl dX1_takes_22 ?_
  refine sn_ogetQ hO fX1_18 dX1_takes_23 (fun q16 => ?_)
  refine sn_deref (fun a17 => ?_)
  refine sn_aload_n hO 1 rfl dX1_takes_26 ?_
  refine sn_getF hO fX1_18 atX_2 dX1_takes_27 ?_
  refine sn_callS hO (c2 := mc) (s2 := ms) (rm := rmX1_rows_AK) [.ref a17, .ref (w.2.2.1 5)] csX1_53 (fun h => ctX1_rows_AK atX_5 h) ⟨Nat.le_of_ble_eq_true rfl, Nat.le_of_ble_eq_true rfl⟩ rfl rfl (Nat.le_of_ble_eq_true rfl) ⟨Nat.zero_le _, Nat.zero_le _, rfl, rfl⟩ dX1_takes_30 (sn_bV (fun S18 => ?_)) sn_x0
  refine sn_aload_n hO 0 rfl dX1_takes_33 ?_
  refine sn_ogetQ hO fX1_21 dX1_takes_34 (fun q19 => ?_)
  refine sn_deref (fun a20 => ?_)
  refine sn_aload_n hO 1 rfl dX1_takes_37 ?_
  refine sn_getF hO fX1_21 atX_2 dX1_takes_38 ?_
  refine sn_callS hO (c2 := mc) (s2 := ms) (rm := rmX1_rows_AK) [.ref a20, .ref (w.2.2.1 6)] csX1_53 (fun h => ctX1_rows_AK atX_6 h) ⟨Nat.le_of_ble_eq_true rfl, Nat.le_of_ble_eq_true rfl⟩ rfl rfl (Nat.le_of_ble_eq_true rfl) ⟨Nat.zero_le _, Nat.zero_le _, rfl, rfl⟩ dX1_takes_41 (sn_bV (fun S21 => ?_)) sn_x0
  refine sn_aload_n hO 0 rfl dX1_takes_44 ?_
  refine sn_ogetQ hO fX1_24 dX1_takes_45 (fun q22 => ?_)
  refine sn_deref (fun a23 => ?_)
  refine sn_aload_n hO 1 rfl dX1_takes_48 ?_
  refine sn_getF hO fX1_24 atX_2 dX1_takes_49 ?_
  refine sn_callS hO (c2 := mc) (s2 := ms) (rm := rmX1_rows_AK) [.ref a23, .ref (w.2.2.1 7)] csX1_53 (fun h => ctX1_rows_AK atX_7 h) ⟨Nat.le_of_ble_eq_true rfl, Nat.le_of_ble_eq_true rfl⟩ rfl rfl (Nat.le_of_ble_eq_true rfl) ⟨Nat.zero_le _, Nat.zero_le _, rfl, rfl⟩ dX1_takes_52 (sn_bV (fun S24 => ?_)) sn_x0
  refine sn_aload_n hO 0 rfl dX1_takes_55 ?_
  refine sn_ogetQ hO fX1_27 dX1_takes_56 (fun q25 => ?_)
  refine sn_deref (fun a26 => ?_)
  refine sn_aload_n hO 1 rfl dX1_takes_59 ?_
  refine sn_getF hO fX1_27 atX_2 dX1_takes_60 ?_
  refine sn_callS hO (c2 := mc) (s2 := ms) (rm := rmX1_rows_AK) [.ref a26, .ref (w.2.2.1 8)] csX1_53 (fun h => ctX1_rows_AK atX_8 h) ⟨Nat.le_of_ble_eq_true rfl, Nat.le_of_ble_eq_true rfl⟩ rfl rfl (Nat.le_of_ble_eq_true rfl) ⟨Nat.zero_le _, Nat.zero_le _, rfl, rfl⟩ dX1_takes_63 (sn_bV (fun S27 => ?_)) sn_x0
  refine sn_aload_n hO 1 rfl dX1_takes_66 ?_
  refine sn_getF hO fX1_30 atX_2 dX1_takes_67 ?_
  refine sn_iconst hO kc_0 dX1_takes_70 ?_
  refine sn_aload_n hO 0 rfl dX1_takes_71 ?_
  refine sn_ogetQ hO fX1_30 dX1_takes_72 (fun q28 => ?_)
  refine sn_deref (fun a29 => ?_)
  refine sn_iconst hO kc_0 dX1_takes_75 ?_
  refine sn_bipush hO kb_96 dX1_takes_76 ?_
  refine sn_copyKA hO atX_9 rfl rfl q592 q594 q593 q136 ⟨Nat.le_of_ble_eq_true rfl, Nat.le_trans (m := 64) (by decide) (Nat.le_of_ble_eq_true rfl)⟩ dX1_takes_78 (fun S30 => ?_)
  refine sn_aload_n hO 0 rfl dX1_takes_81 ?_
  refine sn_ogetQ hO fX1_39 dX1_takes_82 (fun q31 => ?_)
  refine sn_deref (fun a32 => ?_)
  refine sn_callV (P := (∃ fs, sn_oO S30 a32 9 fs) ∧ _) hO (c2 := mc) (s2 := ms) (rm := rmJ2_clear) [] cvX1_57 sn_RvP (fun h => ctJ2_clear h.2) ⟨Nat.le_of_ble_eq_true rfl, Nat.le_of_ble_eq_true rfl⟩ rfl rfl (Nat.le_of_ble_eq_true rfl) ⟨Nat.zero_le _, Nat.zero_le _, rfl, rfl⟩ dX1_takes_85 (sn_bV (fun S33 => ?_)) sn_x0
  refine sn_aload_n hO 0 rfl dX1_takes_88 ?_
  refine sn_ogetQ hO fX1_39 dX1_takes_89 (fun q34 => ?_)
  refine sn_deref (fun a35 => ?_)
  refine sn_aload_n hO 1 rfl dX1_takes_92 ?_
  refine sn_getQ hO fX1_39 atX_2 dX1_takes_93 ?_
  refine sn_deref (fun a36 => ?_)
  refine sn_bud (fun u37 u38 hu37 hu38 => ?_)
  refine sn_callV (P := (∃ fs, sn_oO S33 a35 9 fs) ∧ _) hO (c2 := (mc - u37)) (s2 := (ms - u38)) (rm := (rmJ2_addAll u37 u38)) [.ref a36] cvX1_60 sn_RvP (fun h => ctJ2_addAll h.2) ⟨Nat.le_of_ble_eq_true rfl, Nat.le_of_ble_eq_true rfl⟩ rfl rfl (Nat.le_of_ble_eq_true rfl) ⟨hu37, hu38, rfl, rfl⟩ dX1_takes_96 (sn_bI (fun r39 S40 => ?_)) sn_x0
  refine sn_pop hO rfl dX1_takes_99 ?_
  refine sn_aload_n hO 0 rfl dX1_takes_100 ?_
  refine sn_aload_n hO 1 rfl dX1_takes_101 ?_
  refine sn_getI hO fX1_64 atX_2 dX1_takes_102 ?_
  refine sn_oput hO fX1_64 rfl rfl dX1_takes_105 (fun S41 => ?_)
  refine sn_aload_n hO 0 rfl dX1_takes_108 ?_
  refine sn_aload_n hO 1 rfl dX1_takes_109 ?_
  refine sn_getI hO fX1_67 atX_2 dX1_takes_110 ?_
  refine sn_oput hO fX1_67 rfl rfl dX1_takes_113 (fun S42 => ?_)
  refine sn_aload_n hO 0 rfl dX1_takes_116 ?_
  refine sn_aload_n hO 1 rfl dX1_takes_117 ?_
  refine sn_getI hO fX1_70 atX_2 dX1_takes_118 ?_
  refine sn_oput hO fX1_70 rfl rfl dX1_takes_121 (fun S43 => ?_)
  refine sn_aload_n hO 0 rfl dX1_takes_124 ?_
  refine sn_aload_n hO 1 rfl dX1_takes_125 ?_
  refine sn_getI hO fX1_43 atX_2 dX1_takes_126 ?_
  refine sn_oput hO fX1_43 rfl rfl dX1_takes_129 (fun S44 => ?_)
  subst hQq
  exact sn_vret hO rfl dX1_takes_132
theorem ctX1_takes_AK {w : sn_W} {a0 : Nat} {S : sn_S} {mc : Nat} {ms : Nat} {Q : sn_S → Prop} (h : wpX1_takes_AK w a0 S mc ms Q) : sn_Ct LoX w yX1_takes (ws_ yX1_takes cX1_takes 2 none) (rmX1_takes_AK mc ms) [.ref a0, .ref (w.2.2.1 2)] S (sn_qV Q) sn_noE := sn_Ct_of (XX_O w) (by decide) (Nat.le_of_ble_eq_true rfl) RX1 rfl (fun C hO => wkX1_takes_AK hO a0 S mc ms Q h)
def rmX1_takes_KA (mc ms : Nat) : Room := { frames := 5, cells := mc, slots := ms, locals := 156 }
/-- SnailPost$State.takes(LSnailPost$State;)V -/
def wpX1_takes_KA (w : sn_W) (a1 : Nat) (S : sn_S) (mc : Nat) (ms : Nat) (Q : sn_S → Prop) : Prop :=
  (sn_gQ S a1 1 0 (fun q10 => (sn_nn q10 (fun a11 => wpX1_rows_KA w 3 96 a11 S (fun (S12 : sn_S) => (sn_gQ S12 a1 1 1 (fun q13 => (sn_nn q13 (fun a14 => wpX1_rows_KA w 4 36 a14 S12 (fun (S15 : sn_S) => (sn_gQ S15 a1 1 2 (fun q16 => (sn_nn q16 (fun a17 => wpX1_rows_KA w 5 4 a17 S15 (fun (S18 : sn_S) => (sn_gQ S18 a1 1 3 (fun q19 => (sn_nn q19 (fun a20 => wpX1_rows_KA w 6 5 a20 S18 (fun (S21 : sn_S) => (sn_gQ S21 a1 1 4 (fun q22 => (sn_nn q22 (fun a23 => wpX1_rows_KA w 7 2 a23 S21 (fun (S24 : sn_S) => (sn_gQ S24 a1 1 5 (fun q25 => (sn_nn q25 (fun a26 => wpX1_rows_KA w 8 24 a26 S24 (fun (S27 : sn_S) => (sn_gQ S27 a1 1 6 (fun q28 => (sn_nn q28 (fun a29 => (sn_cAK w S27 a29 9 1 96 .boolean 0 0 96 (fun S30 => (sn_nn (S30.2.2.1 2 7) (fun a31 => ((∃ fs, sn_oO S30 a31 9 fs) ∧ wpJ2_clear w a31 S30 (fun (S32 : sn_S) => (sn_nn (S32.2.2.1 2 7) (fun a33 => (sn_gQ S32 a1 1 7 (fun q34 => (sn_nn q34 (fun a35 => (∃ u36 u37 : Nat, u36 ≤ mc ∧ u37 ≤ ms ∧ ((∃ fs, sn_oO S32 a33 9 fs) ∧ wpJ2_addAll w a33 a35 S32 u36 u37 (fun (r38 : Int32) (S39 : sn_S) => (sn_gI S39 a1 1 8 (fun x40 => sn_lt (sn_pI S39 2 8 x40) (fun S41 => (sn_gI S41 a1 1 9 (fun x42 => sn_lt (sn_pI S41 2 9 x42) (fun S43 => (sn_gI S43 a1 1 10 (fun x44 => sn_lt (sn_pI S43 2 10 x44) (fun S45 => (sn_gI S45 a1 1 11 (fun x46 => sn_lt (sn_pI S45 2 11 x46) (fun S47 => Q S47)))))))))))))))))))))))))))))))))))))))))))))))))))))))))))))
theorem wkX1_takes_KA {w : sn_W} {C : sn_C} (hO : sn_Ok LoX w C RX1 cX1_takes 2 none [] "takes") (a1 : Nat) (S : sn_S) (mc : Nat) (ms : Nat) (Q : sn_S → Prop) : wpX1_takes_KA w a1 S mc ms Q → sn_G LoX w (rmX1_takes_KA mc ms) (sn_qV Q) sn_noE C mc ms 0 [(0, .ref (w.2.2.1 2)), (1, .ref a1)] [] S := by
  unfold wpX1_takes_KA
  generalize hQq : (sn_qV Q) = Qq
  refine sn_aload_n hO 0 rfl dX1_takes_0 ?_
  refine sn_getF hO fX1_9 atX_2 dX1_takes_1 ?_
  refine sn_aload_n hO 1 rfl dX1_takes_4 ?_
  refine sn_ogetQ hO fX1_9 dX1_takes_5 (fun q10 => ?_)
  refine sn_deref (fun a11 => ?_)
  refine sn_callS hO (c2 := mc) (s2 := ms) (rm := rmX1_rows_KA) [.ref (w.2.2.1 3), .ref a11] csX1_53 (fun h => ctX1_rows_KA atX_3 h) ⟨Nat.le_of_ble_eq_true rfl, Nat.le_of_ble_eq_true rfl⟩ rfl rfl (Nat.le_of_ble_eq_true rfl) ⟨Nat.zero_le _, Nat.zero_le _, rfl, rfl⟩ dX1_takes_8 (sn_bV (fun S12 => ?_)) sn_x0
  refine sn_aload_n hO 0 rfl dX1_takes_11 ?_
  refine sn_getF hO fX1_15 atX_2 dX1_takes_12 ?_
  refine sn_aload_n hO 1 rfl dX1_takes_15 ?_
  refine sn_ogetQ hO fX1_15 dX1_takes_16 (fun q13 => ?_)
  refine sn_deref (fun a14 => ?_)
  refine sn_callS hO (c2 := mc) (s2 := ms) (rm := rmX1_rows_KA) [.ref (w.2.2.1 4), .ref a14] csX1_53 (fun h => ctX1_rows_KA atX_4 h) ⟨Nat.le_of_ble_eq_true rfl, Nat.le_of_ble_eq_true rfl⟩ rfl rfl (Nat.le_of_ble_eq_true rfl) ⟨Nat.zero_le _, Nat.zero_le _, rfl, rfl⟩ dX1_takes_19 (sn_bV (fun S15 => ?_)) sn_x0
  refine sn_aload_n hO 0 rfl dX1_takes_22 ?_
  refine sn_getF hO fX1_18 atX_2 dX1_takes_23 ?_
  refine sn_aload_n hO 1 rfl dX1_takes_26 ?_
  refine sn_ogetQ hO fX1_18 dX1_takes_27 (fun q16 => ?_)
  refine sn_deref (fun a17 => ?_)
  refine sn_callS hO (c2 := mc) (s2 := ms) (rm := rmX1_rows_KA) [.ref (w.2.2.1 5), .ref a17] csX1_53 (fun h => ctX1_rows_KA atX_5 h) ⟨Nat.le_of_ble_eq_true rfl, Nat.le_of_ble_eq_true rfl⟩ rfl rfl (Nat.le_of_ble_eq_true rfl) ⟨Nat.zero_le _, Nat.zero_le _, rfl, rfl⟩ dX1_takes_30 (sn_bV (fun S18 => ?_)) sn_x0
  refine sn_aload_n hO 0 rfl dX1_takes_33 ?_
  refine sn_getF hO fX1_21 atX_2 dX1_takes_34 ?_
  refine sn_aload_n hO 1 rfl dX1_takes_37 ?_
  refine sn_ogetQ hO fX1_21 dX1_takes_38 (fun q19 => ?_)
  refine sn_deref (fun a20 => ?_)
  refine sn_callS hO (c2 := mc) (s2 := ms) (rm := rmX1_rows_KA) [.ref (w.2.2.1 6), .ref a20] csX1_53 (fun h => ctX1_rows_KA atX_6 h) ⟨Nat.le_of_ble_eq_true rfl, Nat.le_of_ble_eq_true rfl⟩ rfl rfl (Nat.le_of_ble_eq_true rfl) ⟨Nat.zero_le _, Nat.zero_le _, rfl, rfl⟩ dX1_takes_41 (sn_bV (fun S21 => ?_)) sn_x0
  refine sn_aload_n hO 0 rfl dX1_takes_44 ?_
  refine sn_getF hO fX1_24 atX_2 dX1_takes_45 ?_
  refine sn_aload_n hO 1 rfl dX1_takes_48 ?_
  refine sn_ogetQ hO fX1_24 dX1_takes_49 (fun q22 => ?_)
  refine sn_deref (fun a23 => ?_)
  refine sn_callS hO (c2 := mc) (s2 := ms) (rm := rmX1_rows_KA) [.ref (w.2.2.1 7), .ref a23] csX1_53 (fun h => ctX1_rows_KA atX_7 h) ⟨Nat.le_of_ble_eq_true rfl, Nat.le_of_ble_eq_true rfl⟩ rfl rfl (Nat.le_of_ble_eq_true rfl) ⟨Nat.zero_le _, Nat.zero_le _, rfl, rfl⟩ dX1_takes_52 (sn_bV (fun S24 => ?_)) sn_x0
  refine sn_aload_n hO 0 rfl dX1_takes_55 ?_
  refine sn_getF hO fX1_27 atX_2 dX1_takes_56 ?_
  refine sn_aload_n hO 1 rfl dX1_takes_59 ?_
  refine sn_ogetQ hO fX1_27 dX1_takes_60 (fun q25 => ?_)
  refine sn_deref (fun a26 => ?_)
  refine sn_callS hO (c2 := mc) (s2 := ms) (rm := rmX1_rows_KA) [.ref (w.2.2.1 8), .ref a26] csX1_53 (fun h => ctX1_rows_KA atX_8 h) ⟨Nat.le_of_ble_eq_true rfl, Nat.le_of_ble_eq_true rfl⟩ rfl rfl (Nat.le_of_ble_eq_true rfl) ⟨Nat.zero_le _, Nat.zero_le _, rfl, rfl⟩ dX1_takes_63 (sn_bV (fun S27 => ?_)) sn_x0
  refine sn_aload_n hO 1 rfl dX1_takes_66 ?_
  refine sn_ogetQ hO fX1_30 dX1_takes_67 (fun q28 => ?_)
  refine sn_deref (fun a29 => ?_)
  refine sn_iconst hO kc_0 dX1_takes_70 ?_
  refine sn_aload_n hO 0 rfl dX1_takes_71 ?_
  refine sn_getF hO fX1_30 atX_2 dX1_takes_72 ?_
  refine sn_iconst hO kc_0 dX1_takes_75 ?_
  refine sn_bipush hO kb_96 dX1_takes_76 ?_
  refine sn_copyAK hO atX_9 rfl rfl q592 q594 q593 q136 ⟨Nat.le_of_ble_eq_true rfl, Nat.le_trans (m := 64) (by decide) (Nat.le_of_ble_eq_true rfl)⟩ dX1_takes_78 (fun S30 => ?_)
  refine sn_aload_n hO 0 rfl dX1_takes_81 ?_
  refine sn_getQ hO fX1_39 atX_2 dX1_takes_82 ?_
  refine sn_deref (fun a31 => ?_)
  refine sn_callV (P := (∃ fs, sn_oO S30 a31 9 fs) ∧ _) hO (c2 := mc) (s2 := ms) (rm := rmJ2_clear) [] cvX1_57 sn_RvP (fun h => ctJ2_clear h.2) ⟨Nat.le_of_ble_eq_true rfl, Nat.le_of_ble_eq_true rfl⟩ rfl rfl (Nat.le_of_ble_eq_true rfl) ⟨Nat.zero_le _, Nat.zero_le _, rfl, rfl⟩ dX1_takes_85 (sn_bV (fun S32 => ?_)) sn_x0
  refine sn_aload_n hO 0 rfl dX1_takes_88 ?_
  refine sn_getQ hO fX1_39 atX_2 dX1_takes_89 ?_
  refine sn_deref (fun a33 => ?_)
  refine sn_aload_n hO 1 rfl dX1_takes_92 ?_
  refine sn_ogetQ hO fX1_39 dX1_takes_93 (fun q34 => ?_)
  refine sn_deref (fun a35 => ?_)
  refine sn_bud (fun u36 u37 hu36 hu37 => ?_)
  refine sn_callV (P := (∃ fs, sn_oO S32 a33 9 fs) ∧ _) hO (c2 := (mc - u36)) (s2 := (ms - u37)) (rm := (rmJ2_addAll u36 u37)) [.ref a35] cvX1_60 sn_RvP (fun h => ctJ2_addAll h.2) ⟨Nat.le_of_ble_eq_true rfl, Nat.le_of_ble_eq_true rfl⟩ rfl rfl (Nat.le_of_ble_eq_true rfl) ⟨hu36, hu37, rfl, rfl⟩ dX1_takes_96 (sn_bI (fun r38 S39 => ?_)) sn_x0
  refine sn_pop hO rfl dX1_takes_99 ?_
  refine sn_aload_n hO 0 rfl dX1_takes_100 ?_
  refine sn_aload_n hO 1 rfl dX1_takes_101 ?_
  refine sn_ogetI hO fX1_64 dX1_takes_102 (fun x40 => ?_)
  refine sn_putI hO fX1_64 atX_2 rfl rfl dX1_takes_105 ?_
  refine sn_nmS (fun S41 => ?_)
  refine sn_aload_n hO 0 rfl dX1_takes_108 ?_
  refine sn_aload_n hO 1 rfl dX1_takes_109 ?_
  refine sn_ogetI hO fX1_67 dX1_takes_110 (fun x42 => ?_)
  refine sn_putI hO fX1_67 atX_2 rfl rfl dX1_takes_113 ?_
  refine sn_nmS (fun S43 => ?_)
  refine sn_aload_n hO 0 rfl dX1_takes_116 ?_
  refine sn_aload_n hO 1 rfl dX1_takes_117 ?_
  refine sn_ogetI hO fX1_70 dX1_takes_118 (fun x44 => ?_)
  refine sn_putI hO fX1_70 atX_2 rfl rfl dX1_takes_121 ?_
  refine sn_nmS (fun S45 => ?_)
  refine sn_aload_n hO 0 rfl dX1_takes_124 ?_
  refine sn_aload_n hO 1 rfl dX1_takes_125 ?_
  refine sn_ogetI hO fX1_43 dX1_takes_126 (fun x46 => ?_)
  refine sn_putI hO fX1_43 atX_2 rfl rfl dX1_takes_129 ?_
  refine sn_nmS (fun S47 => ?_)
  subst hQq
  exact sn_vret hO rfl dX1_takes_132
theorem ctX1_takes_KA {w : sn_W} {a1 : Nat} {S : sn_S} {mc : Nat} {ms : Nat} {Q : sn_S → Prop} (h : wpX1_takes_KA w a1 S mc ms Q) : sn_Ct LoX w yX1_takes (ws_ yX1_takes cX1_takes 2 none) (rmX1_takes_KA mc ms) [.ref (w.2.2.1 2), .ref a1] S (sn_qV Q) sn_noE := sn_Ct_of (XX_O w) (by decide) (Nat.le_of_ble_eq_true rfl) RX1 rfl (fun C hO => wkX1_takes_KA hO a1 S mc ms Q h)
def rmX0_done : Room := { frames := 0, cells := 0, slots := 0, locals := 0 }
/-- SnailPost.done(I)I -/
def wpX0_done (w : sn_W) (p1 : Int32) (S : sn_S) (Q : Int32 → sn_S → Prop) : Prop :=
  sn_lt (sn_pI S 0 0 0) (fun S10 => Q p1 S10)
theorem wkX0_done {w : sn_W} {C : sn_C} (hO : sn_Ok LoX w C RX0 cX0_done 2 (some .int) [] "done") (p1 : Int32) (S : sn_S) (Q : Int32 → sn_S → Prop) : wpX0_done w p1 S Q → sn_G LoX w rmX0_done (sn_qI Q) sn_noE C 0 0 0 [(0, .ref (w.2.2.1 0)), (1, .int p1)] [] S := by
  unfold wpX0_done
  generalize hQq : (sn_qI Q) = Qq
  refine sn_aload_n hO 0 rfl dX0_done_0 ?_
  refine sn_iconst hO kc_0 dX0_done_1 ?_
  refine sn_putI hO fX0_97 atX_0 rfl rfl dX0_done_2 ?_
  refine sn_nmS (fun S10 => ?_)
  refine sn_iload_n hO 1 rfl dX0_done_5 ?_
  subst hQq
  exact sn_iret hO rfl dX0_done_6
theorem ctX0_done {w : sn_W} {p1 : Int32} {S : sn_S} {Q : Int32 → sn_S → Prop} (h : wpX0_done w p1 S Q) : sn_Ct LoX w yX0_done (ws_ yX0_done cX0_done 2 (some .int)) rmX0_done [.ref (w.2.2.1 0), .int p1] S (sn_qI Q) sn_noE := sn_Ct_of (XX_O w) (by decide) (Nat.le_of_ble_eq_true rfl) RX0 rfl (fun C hO => wkX0_done hO p1 S Q h)
def rmX0_image (mc ms : Nat) : Room := { frames := 6, cells := mc, slots := ms, locals := 177 }
/-- SnailPost.image(I)I -/
def wpX0_image (w : sn_W) (p1 : Int32) (S : sn_S) (mc : Nat) (ms : Nat) (Q : Int32 → sn_S → Prop) : Prop :=
  wpX0_in w p1 0 1 (fun (r10 : Int32) => ((¬ r10 = 0 → (vp_in p1 2 ∧ sn_jn (fun (m12 : Nat) (m13 : Nat) (S11 : sn_S) => (vp_in p1 2 ∧ (sn_nn (S11.2.2.1 10 (p1).toNatClampNeg) (fun a15 => (∃ u16 u17 : Nat, u16 ≤ m12 ∧ u17 ≤ m13 ∧ ((∃ fs, sn_oO S11 a15 1 fs) ∧ wpX1_takes_AK w a15 S11 u16 u17 (fun (S18 : sn_S) => wpX0_done w 0 S18 (fun (r19 : Int32) (S20 : sn_S) => Q r19 S20)))))))) (fun (k14 : Nat → Nat → sn_S → Prop) => (((S.2.2.1 10 (p1).toNatClampNeg) = none → (sn_nw S mc ms 12 (.inr (1, [.null, .null, .null, .null, .null, .null, .null, .null, .int 0, .int 0, .int 0, .int 0])) (fun a22 S23 => (∃ u24 u25 : Nat, u24 ≤ (mc - 1) ∧ u25 ≤ (ms - 12) ∧ wpX1_init w a22 S23 u24 u25 (fun (S26 : sn_S) => ((∃ fs, sn_oO S26 a22 1 fs) ∧ vp_in p1 2 ∧ sn_lt (sn_pR S26 10 (p1).toNatClampNeg (some a22)) (fun S27 => k14 ((mc - 1) - u24) ((ms - 12) - u25) S27))))))) ∧ (∀ a21 : Nat, (S.2.2.1 10 (p1).toNatClampNeg) = some a21 → k14 mc ms S))))) ∧ (r10 = 0 → wpX0_refuse w (-1) S (fun (r28 : Int32) (S29 : sn_S) => Q r28 S29))))
theorem wkX0_image {w : sn_W} {C : sn_C} (hO : sn_Ok LoX w C RX0 cX0_image 2 (some .int) [] "image") (p1 : Int32) (S : sn_S) (mc : Nat) (ms : Nat) (Q : Int32 → sn_S → Prop) : wpX0_image w p1 S mc ms Q → sn_G LoX w (rmX0_image mc ms) (sn_qI Q) sn_noE C mc ms 0 [(0, .ref (w.2.2.1 0)), (1, .int p1)] [] S := by
  unfold wpX0_image
  generalize hQq : (sn_qI Q) = Qq
  refine sn_iload_n hO 1 rfl dX0_image_0 ?_
  refine sn_iconst hO kc_0 dX0_image_1 ?_
  refine sn_iconst hO kc_1 dX0_image_2 ?_
  refine sn_callS hO (c2 := mc) (s2 := ms) (rm := rmX0_in) [.int p1, .int 0, .int 1] csX0_112 (fun h => ctX0_in h) ⟨Nat.le_of_ble_eq_true rfl, Nat.le_of_ble_eq_true rfl⟩ rfl rfl (Nat.le_of_ble_eq_true rfl) ⟨Nat.zero_le _, Nat.zero_le _, rfl, rfl⟩ dX0_image_3 (sn_bIp (fun r10 => ?_)) sn_x0
  refine sn_if_ne hO 15 (by decide) dX0_image_6 ?_ ?_
  · refine sn_aload_n hO 0 rfl dX0_image_15 ?_
    refine sn_getF hO fX0_20 atX_0 dX0_image_16 ?_
    refine sn_iload_n hO 1 rfl dX0_image_19 ?_
    refine sn_aald hO atX_10 rfl dX0_image_20 ?_
    refine sn_jn_walk (fun (k : Nat → Nat → sn_S → Prop) => ∀ (m12 : Nat) (m13 : Nat) (S11 : sn_S), k m12 m13 S11 → sn_G LoX w (rmX0_image mc ms) Qq sn_noE C m12 m13 37 [(0, .ref (w.2.2.1 0)), (1, .int p1)] [] S11) ?_ ?_
    · intro m12 m13 S11
      refine sn_aload_n hO 0 rfl dX0_image_37 ?_
      refine sn_getF hO fX0_20 atX_0 dX0_image_38 ?_
      refine sn_iload_n hO 1 rfl dX0_image_41 ?_
      refine sn_aald hO atX_10 rfl dX0_image_42 ?_
      refine sn_deref (fun a15 => ?_)
      refine sn_aload_n hO 0 rfl dX0_image_43 ?_
      refine sn_getF hO fX0_16 atX_0 dX0_image_44 ?_
      refine sn_bud (fun u16 u17 hu16 hu17 => ?_)
      refine sn_callV (P := (∃ fs, sn_oO S11 a15 1 fs) ∧ _) hO (c2 := (m12 - u16)) (s2 := (m13 - u17)) (rm := (rmX1_takes_AK u16 u17)) [.ref (w.2.2.1 2)] cvX0_125 sn_RvP (fun h => ctX1_takes_AK h.2) ⟨Nat.le_of_ble_eq_true rfl, Nat.le_of_ble_eq_true rfl⟩ rfl rfl (Nat.le_of_ble_eq_true rfl) ⟨hu16, hu17, rfl, rfl⟩ dX0_image_47 (sn_bV (fun S18 => ?_)) sn_x0
      refine sn_aload_n hO 0 rfl dX0_image_50 ?_
      refine sn_iconst hO kc_0 dX0_image_51 ?_
      refine sn_callV hO (c2 := (m12 - u16)) (s2 := (m13 - u17)) (rm := rmX0_done) [.int 0] cvX0_109 (fun _ => sn_Rv_K atX_0) (fun h => ctX0_done h) ⟨Nat.le_of_ble_eq_true rfl, Nat.le_of_ble_eq_true rfl⟩ rfl rfl (Nat.le_of_ble_eq_true rfl) ⟨Nat.zero_le _, Nat.zero_le _, rfl, rfl⟩ dX0_image_52 (sn_bI (fun r19 S20 => ?_)) sn_x0
      subst hQq
      exact sn_iret hO rfl dX0_image_55
    · intro k14 hk14
      refine sn_ifnonnull hO 37 (by decide) dX0_image_21 ?_ (fun a21 => ?_)
      · refine sn_aload_n hO 0 rfl dX0_image_24 ?_
        refine sn_getF hO fX0_20 atX_0 dX0_image_25 ?_
        refine sn_iload_n hO 1 rfl dX0_image_28 ?_
        refine sn_new (fs := [.null, .null, .null, .null, .null, .null, .null, .null, .int 0, .int 0, .int 0, .int 0]) hO tyX1 in_X1 tyX1_ok q148 q149 q104 rfl nfX_1 dX0_image_29 (fun a22 S23 => ?_)
        refine sn_dup hO rfl dX0_image_32 ?_
        refine sn_bud (fun u24 u25 hu24 hu25 => ?_)
        refine sn_callIN (rY := none) hO (c2 := ((mc - 1) - u24)) (s2 := ((ms - 12) - u25)) (rm := (rmX1_init u24 u25)) [] ciX0_15 (fun h => ctX1_init h) ⟨Nat.le_of_ble_eq_true rfl, Nat.le_of_ble_eq_true rfl⟩ rfl rfl (Nat.le_of_ble_eq_true rfl) ⟨hu24, hu25, rfl, rfl⟩ dX0_image_33 (sn_bV (fun S26 => ?_)) sn_x0
        refine sn_aastP (ci := 1) hO atX_10 rfl rfl dX0_image_36 ?_
        refine sn_nmS (fun S27 => ?_)
        exact hk14 _ _ _
      · exact hk14 _ _ _
  · refine sn_aload_n hO 0 rfl dX0_image_9 ?_
    refine sn_iconst hO kc_m1 dX0_image_10 ?_
    refine sn_callV hO (c2 := mc) (s2 := ms) (rm := rmX0_refuse) [.int (-1)] cvX0_122 (fun _ => sn_Rv_K atX_0) (fun h => ctX0_refuse h) ⟨Nat.le_of_ble_eq_true rfl, Nat.le_of_ble_eq_true rfl⟩ rfl rfl (Nat.le_of_ble_eq_true rfl) ⟨Nat.zero_le _, Nat.zero_le _, rfl, rfl⟩ dX0_image_11 (sn_bI (fun r28 S29 => ?_)) sn_x0
    subst hQq
    exact sn_iret hO rfl dX0_image_14
theorem ctX0_image {w : sn_W} {p1 : Int32} {S : sn_S} {mc : Nat} {ms : Nat} {Q : Int32 → sn_S → Prop} (h : wpX0_image w p1 S mc ms Q) : sn_Ct LoX w yX0_image (ws_ yX0_image cX0_image 2 (some .int)) (rmX0_image mc ms) [.ref (w.2.2.1 0), .int p1] S (sn_qI Q) sn_noE := sn_Ct_of (XX_O w) (by decide) (Nat.le_of_ble_eq_true rfl) RX0 rfl (fun C hO => wkX0_image hO p1 S mc ms Q h)
def rmX0_told : Room := { frames := 1, cells := 0, slots := 0, locals := 21 }
/-- SnailPost.told(I)I -/
def wpX0_told (w : sn_W) (p1 : Int32) (S : sn_S) (Q : Int32 → sn_S → Prop) : Prop :=
  sn_lt (sn_pI S 0 8 ((S.1 0 8) + 1)) (fun S10 => wpX0_done w p1 S10 (fun (r11 : Int32) (S12 : sn_S) => Q r11 S12))
theorem wkX0_told {w : sn_W} {C : sn_C} (hO : sn_Ok LoX w C RX0 cX0_told 2 (some .int) [] "told") (p1 : Int32) (S : sn_S) (Q : Int32 → sn_S → Prop) : wpX0_told w p1 S Q → sn_G LoX w rmX0_told (sn_qI Q) sn_noE C 0 0 0 [(0, .ref (w.2.2.1 0)), (1, .int p1)] [] S := by
  unfold wpX0_told
  generalize hQq : (sn_qI Q) = Qq
  refine sn_aload_n hO 0 rfl dX0_told_0 ?_
  refine sn_dup hO rfl dX0_told_1 ?_
  refine sn_getI hO fX0_106 atX_0 dX0_told_2 ?_
  refine sn_iconst hO kc_1 dX0_told_5 ?_
  refine sn_iadd hO dX0_told_6 ?_
  refine sn_putI hO fX0_106 atX_0 rfl rfl dX0_told_7 ?_
  refine sn_nmS (fun S10 => ?_)
  refine sn_aload_n hO 0 rfl dX0_told_10 ?_
  refine sn_iload_n hO 1 rfl dX0_told_11 ?_
  refine sn_callV hO (c2 := 0) (s2 := 0) (rm := rmX0_done) [.int p1] cvX0_109 (fun _ => sn_Rv_K atX_0) (fun h => ctX0_done h) ⟨Nat.le_of_ble_eq_true rfl, Nat.le_of_ble_eq_true rfl⟩ rfl rfl (Nat.le_of_ble_eq_true rfl) ⟨Nat.le_of_ble_eq_true rfl, Nat.le_of_ble_eq_true rfl, rfl, rfl⟩ dX0_told_12 (sn_bI (fun r11 S12 => ?_)) sn_x0
  subst hQq
  exact sn_iret hO rfl dX0_told_15
theorem ctX0_told {w : sn_W} {p1 : Int32} {S : sn_S} {Q : Int32 → sn_S → Prop} (h : wpX0_told w p1 S Q) : sn_Ct LoX w yX0_told (ws_ yX0_told cX0_told 2 (some .int)) rmX0_told [.ref (w.2.2.1 0), .int p1] S (sn_qI Q) sn_noE := sn_Ct_of (XX_O w) (by decide) (Nat.le_of_ble_eq_true rfl) RX0 rfl (fun C hO => wkX0_told hO p1 S Q h)
def rmX0_back (mc ms : Nat) : Room := { frames := 6, cells := mc, slots := ms, locals := 177 }
/-- SnailPost.back(I)I -/
def wpX0_back (w : sn_W) (p1 : Int32) (S : sn_S) (mc : Nat) (ms : Nat) (Q : Int32 → sn_S → Prop) : Prop :=
  wpX0_in w p1 0 1 (fun (r10 : Int32) => ((¬ r10 = 0 → (vp_in p1 2 ∧ (((S.2.2.1 10 (p1).toNatClampNeg) = none → wpX0_refuse w (-2) S (fun (r12 : Int32) (S13 : sn_S) => Q r12 S13)) ∧ (∀ a11 : Nat, (S.2.2.1 10 (p1).toNatClampNeg) = some a11 → (vp_in p1 2 ∧ (sn_nn (S.2.2.1 10 (p1).toNatClampNeg) (fun a14 => (∃ u15 u16 : Nat, u15 ≤ mc ∧ u16 ≤ ms ∧ wpX1_takes_KA w a14 S u15 u16 (fun (S17 : sn_S) => wpX0_told w 0 S17 (fun (r18 : Int32) (S19 : sn_S) => Q r18 S19)))))))))) ∧ (r10 = 0 → wpX0_refuse w (-1) S (fun (r20 : Int32) (S21 : sn_S) => Q r20 S21))))
theorem wkX0_back {w : sn_W} {C : sn_C} (hO : sn_Ok LoX w C RX0 cX0_back 2 (some .int) [] "back") (p1 : Int32) (S : sn_S) (mc : Nat) (ms : Nat) (Q : Int32 → sn_S → Prop) : wpX0_back w p1 S mc ms Q → sn_G LoX w (rmX0_back mc ms) (sn_qI Q) sn_noE C mc ms 0 [(0, .ref (w.2.2.1 0)), (1, .int p1)] [] S := by
  unfold wpX0_back
  generalize hQq : (sn_qI Q) = Qq
  refine sn_iload_n hO 1 rfl dX0_back_0 ?_
  refine sn_iconst hO kc_0 dX0_back_1 ?_
  refine sn_iconst hO kc_1 dX0_back_2 ?_
  refine sn_callS hO (c2 := mc) (s2 := ms) (rm := rmX0_in) [.int p1, .int 0, .int 1] csX0_112 (fun h => ctX0_in h) ⟨Nat.le_of_ble_eq_true rfl, Nat.le_of_ble_eq_true rfl⟩ rfl rfl (Nat.le_of_ble_eq_true rfl) ⟨Nat.zero_le _, Nat.zero_le _, rfl, rfl⟩ dX0_back_3 (sn_bIp (fun r10 => ?_)) sn_x0
  refine sn_if_ne hO 15 (by decide) dX0_back_6 ?_ ?_
  · refine sn_aload_n hO 0 rfl dX0_back_15 ?_
    refine sn_getF hO fX0_20 atX_0 dX0_back_16 ?_
    refine sn_iload_n hO 1 rfl dX0_back_19 ?_
    refine sn_aald hO atX_10 rfl dX0_back_20 ?_
    refine sn_ifnonnull hO 31 (by decide) dX0_back_21 ?_ (fun a11 => ?_)
    · refine sn_aload_n hO 0 rfl dX0_back_24 ?_
      refine sn_bipush hO kb_m2 dX0_back_25 ?_
      refine sn_callV hO (c2 := mc) (s2 := ms) (rm := rmX0_refuse) [.int (-2)] cvX0_122 (fun _ => sn_Rv_K atX_0) (fun h => ctX0_refuse h) ⟨Nat.le_of_ble_eq_true rfl, Nat.le_of_ble_eq_true rfl⟩ rfl rfl (Nat.le_of_ble_eq_true rfl) ⟨Nat.zero_le _, Nat.zero_le _, rfl, rfl⟩ dX0_back_27 (sn_bI (fun r12 S13 => ?_)) sn_x0
      subst hQq
      exact sn_iret hO rfl dX0_back_30
    · refine sn_aload_n hO 0 rfl dX0_back_31 ?_
      refine sn_getF hO fX0_16 atX_0 dX0_back_32 ?_
      refine sn_aload_n hO 0 rfl dX0_back_35 ?_
      refine sn_getF hO fX0_20 atX_0 dX0_back_36 ?_
      refine sn_iload_n hO 1 rfl dX0_back_39 ?_
      refine sn_aald hO atX_10 rfl dX0_back_40 ?_
      refine sn_deref (fun a14 => ?_)
      refine sn_bud (fun u15 u16 hu15 hu16 => ?_)
      refine sn_callV hO (c2 := (mc - u15)) (s2 := (ms - u16)) (rm := (rmX1_takes_KA u15 u16)) [.ref a14] cvX0_125 (fun _ => sn_Rv_K atX_2) (fun h => ctX1_takes_KA h) ⟨Nat.le_of_ble_eq_true rfl, Nat.le_of_ble_eq_true rfl⟩ rfl rfl (Nat.le_of_ble_eq_true rfl) ⟨hu15, hu16, rfl, rfl⟩ dX0_back_41 (sn_bV (fun S17 => ?_)) sn_x0
      refine sn_aload_n hO 0 rfl dX0_back_44 ?_
      refine sn_iconst hO kc_0 dX0_back_45 ?_
      refine sn_callV hO (c2 := (mc - u15)) (s2 := (ms - u16)) (rm := rmX0_told) [.int 0] cvX0_129 (fun _ => sn_Rv_K atX_0) (fun h => ctX0_told h) ⟨Nat.le_of_ble_eq_true rfl, Nat.le_of_ble_eq_true rfl⟩ rfl rfl (Nat.le_of_ble_eq_true rfl) ⟨Nat.zero_le _, Nat.zero_le _, rfl, rfl⟩ dX0_back_46 (sn_bI (fun r18 S19 => ?_)) sn_x0
      subst hQq
      exact sn_iret hO rfl dX0_back_49
  · refine sn_aload_n hO 0 rfl dX0_back_9 ?_
    refine sn_iconst hO kc_m1 dX0_back_10 ?_
    refine sn_callV hO (c2 := mc) (s2 := ms) (rm := rmX0_refuse) [.int (-1)] cvX0_122 (fun _ => sn_Rv_K atX_0) (fun h => ctX0_refuse h) ⟨Nat.le_of_ble_eq_true rfl, Nat.le_of_ble_eq_true rfl⟩ rfl rfl (Nat.le_of_ble_eq_true rfl) ⟨Nat.zero_le _, Nat.zero_le _, rfl, rfl⟩ dX0_back_11 (sn_bI (fun r20 S21 => ?_)) sn_x0
    subst hQq
    exact sn_iret hO rfl dX0_back_14
theorem ctX0_back {w : sn_W} {p1 : Int32} {S : sn_S} {mc : Nat} {ms : Nat} {Q : Int32 → sn_S → Prop} (h : wpX0_back w p1 S mc ms Q) : sn_Ct LoX w yX0_back (ws_ yX0_back cX0_back 2 (some .int)) (rmX0_back mc ms) [.ref (w.2.2.1 0), .int p1] S (sn_qI Q) sn_noE := sn_Ct_of (XX_O w) (by decide) (Nat.le_of_ble_eq_true rfl) RX0 rfl (fun C hO => wkX0_back hO p1 S mc ms Q h)
def rmX0_isCell : Room := { frames := 1, cells := 0, slots := 0, locals := 22 }
/-- SnailPost.isCell(I)Z -/
def wpX0_isCell (w : sn_W) (p1 : Int32) (Q : Int32 → Prop) : Prop :=
  wpX0_in w p1 0 95 (fun (r10 : Int32) => (narrow .boolean (.int r10) = .int r10 ∧ Q r10))
theorem wkX0_isCell {w : sn_W} {C : sn_C} (hO : sn_Ok LoX w C RX0 cX0_isCell 1 (some .boolean) [] "isCell") (p1 : Int32) (S : sn_S) (Q : Int32 → Prop) : wpX0_isCell w p1 Q → sn_G LoX w rmX0_isCell (sn_qI (fun r S1 => S1 = S ∧ Q r)) sn_noE C 0 0 0 [(0, .int p1)] [] S := by
  unfold wpX0_isCell
  generalize hQq : (sn_qI (fun r S1 => S1 = S ∧ Q r)) = Qq
  refine sn_iload_n hO 0 rfl dX0_isCell_0 ?_
  refine sn_iconst hO kc_0 dX0_isCell_1 ?_
  refine sn_bipush hO kb_95 dX0_isCell_2 ?_
  refine sn_callS hO (c2 := 0) (s2 := 0) (rm := rmX0_in) [.int p1, .int 0, .int 95] csX0_112 (fun h => ctX0_in h) ⟨Nat.le_of_ble_eq_true rfl, Nat.le_of_ble_eq_true rfl⟩ rfl rfl (Nat.le_of_ble_eq_true rfl) ⟨Nat.le_of_ble_eq_true rfl, Nat.le_of_ble_eq_true rfl, rfl, rfl⟩ dX0_isCell_4 (sn_bIp (fun r10 => ?_)) sn_x0
  subst hQq
  exact fun h => sn_zretP hO rfl dX0_isCell_7 ⟨h.1, rfl, h.2⟩
theorem ctX0_isCell {w : sn_W} {p1 : Int32} {S : sn_S} {Q : Int32 → Prop} (h : wpX0_isCell w p1 Q) : sn_Ct LoX w yX0_isCell (ws_ yX0_isCell cX0_isCell 1 (some .boolean)) rmX0_isCell [.int p1] S (sn_qI (fun r S1 => S1 = S ∧ Q r)) sn_noE := sn_Ct_of (XX_O w) (by decide) (Nat.le_of_ble_eq_true rfl) RX0 rfl (fun C hO => wkX0_isCell hO p1 S Q h)
def rmX0_replaces : Room := { frames := 2, cells := 0, slots := 0, locals := 42 }
/-- SnailPost.replaces([III)I -/
def wpX0_replaces (w : sn_W) (k1r : Nat) (n1 : Nat) (p2 : Int32) (p3 : Int32) (S : sn_S) (Q : Int32 → sn_S → Prop) : Prop :=
  (vp_in p2 n1 ∧ sn_lt (S.1 k1r (p2).toNatClampNeg) (fun x10 => (vp_in p2 n1 ∧ sn_lt (sn_pI S k1r (p2).toNatClampNeg p3) (fun S11 => wpX0_told w x10 S11 (fun (r12 : Int32) (S13 : sn_S) => Q r12 S13)))))
theorem wkX0_replaces {w : sn_W} {C : sn_C} (hO : sn_Ok LoX w C RX0 cX0_replaces 5 (some .int) [] "replaces") (k1r : Nat) (n1 : Nat) (p2 : Int32) (p3 : Int32) (S : sn_S) (hk1 : sn_At LoX k1r (.inr (0, n1, 0))) (Q : Int32 → sn_S → Prop) : wpX0_replaces w k1r n1 p2 p3 S Q → sn_G LoX w rmX0_replaces (sn_qI Q) sn_noE C 0 0 0 [(0, .ref (w.2.2.1 0)), (1, .ref (w.2.2.1 k1r)), (2, .int p2), (3, .int p3)] [] S := by
  unfold wpX0_replaces
  generalize hQq : (sn_qI Q) = Qq
  refine sn_aload_n hO 1 rfl dX0_replaces_0 ?_
  refine sn_iload_n hO 2 rfl dX0_replaces_1 ?_
  refine sn_iald hO hk1 rfl dX0_replaces_2 ?_
  refine sn_nmI (fun x10 => ?_)
  refine sn_istore hO (lv' := [(4, .int x10), (0, .ref (w.2.2.1 0)), (1, .ref (w.2.2.1 k1r)), (2, .int p2), (3, .int p3)]) (by decide) rfl dX0_replaces_3 ?_
  refine sn_aload_n hO 2 rfl dX0_replaces_5 ?_
  refine sn_iload_n hO 3 rfl dX0_replaces_6 ?_
  refine sn_iload_n hO 4 rfl dX0_replaces_7 ?_
  refine sn_iast hO hk1 rfl dX0_replaces_8 ?_
  refine sn_nmS (fun S11 => ?_)
  refine sn_aload_n hO 1 rfl dX0_replaces_9 ?_
  refine sn_iload hO 0 rfl dX0_replaces_10 ?_
  refine sn_callV hO (c2 := 0) (s2 := 0) (rm := rmX0_told) [.int x10] cvX0_129 (fun _ => sn_Rv_K atX_0) (fun h => ctX0_told h) ⟨Nat.le_of_ble_eq_true rfl, Nat.le_of_ble_eq_true rfl⟩ rfl rfl (Nat.le_of_ble_eq_true rfl) ⟨Nat.le_of_ble_eq_true rfl, Nat.le_of_ble_eq_true rfl, rfl, rfl⟩ dX0_replaces_12 (sn_bI (fun r12 S13 => ?_)) sn_x0
  subst hQq
  exact sn_iret hO rfl dX0_replaces_15
theorem ctX0_replaces {w : sn_W} {k1r : Nat} {n1 : Nat} {p2 : Int32} {p3 : Int32} (hk1 : sn_At LoX k1r (.inr (0, n1, 0))) {S : sn_S} {Q : Int32 → sn_S → Prop} (h : wpX0_replaces w k1r n1 p2 p3 S Q) : sn_Ct LoX w yX0_replaces (ws_ yX0_replaces cX0_replaces 5 (some .int)) rmX0_replaces [.ref (w.2.2.1 0), .ref (w.2.2.1 k1r), .int p2, .int p3] S (sn_qI Q) sn_noE := sn_Ct_of (XX_O w) (by decide) (Nat.le_of_ble_eq_true rfl) RX0 rfl (fun C hO => wkX0_replaces hO k1r n1 p2 p3 S hk1 Q h)
def rmX0_damp : Room := { frames := 3, cells := 0, slots := 0, locals := 66 }
/-- SnailPost.damp(II)I -/
def wpX0_damp (w : sn_W) (p1 : Int32) (p2 : Int32) (S : sn_S) (Q : Int32 → sn_S → Prop) : Prop :=
  wpX0_isCell w p1 (fun (r10 : Int32) => sn_jn (κ := Prop) (wpX0_refuse w (-1) S (fun (r12 : Int32) (S13 : sn_S) => Q r12 S13)) (fun (k11 : Prop) => ((r10 = 0 → k11) ∧ (¬ r10 = 0 → wpX0_in w p2 0 9 (fun (r14 : Int32) => ((r14 = 0 → k11) ∧ (¬ r14 = 0 → wpX0_replaces w 3 96 p1 p2 S (fun (r15 : Int32) (S16 : sn_S) => Q r15 S16))))))))
theorem wkX0_damp {w : sn_W} {C : sn_C} (hO : sn_Ok LoX w C RX0 cX0_damp 3 (some .int) [] "damp") (p1 : Int32) (p2 : Int32) (S : sn_S) (Q : Int32 → sn_S → Prop) : wpX0_damp w p1 p2 S Q → sn_G LoX w rmX0_damp (sn_qI Q) sn_noE C 0 0 0 [(0, .ref (w.2.2.1 0)), (1, .int p1), (2, .int p2)] [] S := by
  unfold wpX0_damp
  generalize hQq : (sn_qI Q) = Qq
  refine sn_iload_n hO 1 rfl dX0_damp_0 ?_
  refine sn_callS hO (c2 := 0) (s2 := 0) (rm := rmX0_isCell) [.int p1] csX0_132 (fun h => ctX0_isCell h) ⟨Nat.le_of_ble_eq_true rfl, Nat.le_of_ble_eq_true rfl⟩ rfl rfl (Nat.le_of_ble_eq_true rfl) ⟨Nat.le_of_ble_eq_true rfl, Nat.le_of_ble_eq_true rfl, rfl, rfl⟩ dX0_damp_1 (sn_bIp (fun r10 => ?_)) sn_x0
  refine sn_jn_walk (fun (k : Prop) => k → sn_G LoX w rmX0_damp Qq sn_noE C 0 0 33 [(0, .ref (w.2.2.1 0))] [] S) ?_ ?_
  · refine sn_aload_n hO 0 rfl dX0_damp_33 ?_
    refine sn_iconst hO kc_m1 dX0_damp_34 ?_
    refine sn_callV hO (c2 := 0) (s2 := 0) (rm := rmX0_refuse) [.int (-1)] cvX0_122 (fun _ => sn_Rv_K atX_0) (fun h => ctX0_refuse h) ⟨Nat.le_of_ble_eq_true rfl, Nat.le_of_ble_eq_true rfl⟩ rfl rfl (Nat.le_of_ble_eq_true rfl) ⟨Nat.le_of_ble_eq_true rfl, Nat.le_of_ble_eq_true rfl, rfl, rfl⟩ dX0_damp_35 (sn_bI (fun r12 S13 => ?_)) sn_x0
    subst hQq
    exact sn_iret hO rfl dX0_damp_38
  · intro k11 hk11
    refine sn_if_eq hO 33 (by decide) dX0_damp_4 ?_ ?_
    · refine sn_sub [0] rfl ?_
      exact hk11
    · refine sn_iload_n hO 2 rfl dX0_damp_7 ?_
      refine sn_iconst hO kc_0 dX0_damp_8 ?_
      refine sn_bipush hO kb_9 dX0_damp_9 ?_
      refine sn_callS hO (c2 := 0) (s2 := 0) (rm := rmX0_in) [.int p2, .int 0, .int 9] csX0_112 (fun h => ctX0_in h) ⟨Nat.le_of_ble_eq_true rfl, Nat.le_of_ble_eq_true rfl⟩ rfl rfl (Nat.le_of_ble_eq_true rfl) ⟨Nat.le_of_ble_eq_true rfl, Nat.le_of_ble_eq_true rfl, rfl, rfl⟩ dX0_damp_11 (sn_bIp (fun r14 => ?_)) sn_x0
      refine sn_if_eq hO 33 (by decide) dX0_damp_14 ?_ ?_
      · refine sn_sub [0] rfl ?_
        exact hk11
      · refine sn_aload_n hO 0 rfl dX0_damp_17 ?_
        refine sn_aload_n hO 0 rfl dX0_damp_18 ?_
        refine sn_getF hO fX0_16 atX_0 dX0_damp_19 ?_
        refine sn_getFN hO fX0_136 atX_2 dX0_damp_22 ?_
        refine sn_iload_n hO 1 rfl dX0_damp_25 ?_
        refine sn_iload_n hO 2 rfl dX0_damp_26 ?_
        refine sn_callV hO (c2 := 0) (s2 := 0) (rm := rmX0_replaces) [.ref (w.2.2.1 3), .int p1, .int p2] cvX0_139 (fun _ => sn_Rv_K atX_0) (fun h => ctX0_replaces atX_3 h) ⟨Nat.le_of_ble_eq_true rfl, Nat.le_of_ble_eq_true rfl⟩ rfl rfl (Nat.le_of_ble_eq_true rfl) ⟨Nat.le_of_ble_eq_true rfl, Nat.le_of_ble_eq_true rfl, rfl, rfl⟩ dX0_damp_27 (sn_bI (fun r15 S16 => ?_)) sn_x0
        refine sn_goto hO 38 (by decide) dX0_damp_30 ?_
        subst hQq
        exact sn_iret hO rfl dX0_damp_38
theorem ctX0_damp {w : sn_W} {p1 : Int32} {p2 : Int32} {S : sn_S} {Q : Int32 → sn_S → Prop} (h : wpX0_damp w p1 p2 S Q) : sn_Ct LoX w yX0_damp (ws_ yX0_damp cX0_damp 3 (some .int)) rmX0_damp [.ref (w.2.2.1 0), .int p1, .int p2] S (sn_qI Q) sn_noE := sn_Ct_of (XX_O w) (by decide) (Nat.le_of_ble_eq_true rfl) RX0 rfl (fun C hO => wkX0_damp hO p1 p2 S Q h)
def rmX0_of0 : Room := { frames := 0, cells := 0, slots := 0, locals := 0 }
/-- SnailPost.of0(II)I -/
def wpX0_of0 (w : sn_W) (p1 : Int32) (p2 : Int32) (S : sn_S) (Q : Int32 → Prop) : Prop :=
  (vp_in ((6 * p1) + p2) 36 ∧ Q (S.1 4 (((6 * p1) + p2)).toNatClampNeg))
theorem wkX0_of0 {w : sn_W} {C : sn_C} (hO : sn_Ok LoX w C RX0 cX0_of0 3 (some .int) [] "of0") (p1 : Int32) (p2 : Int32) (S : sn_S) (Q : Int32 → Prop) : wpX0_of0 w p1 p2 S Q → sn_G LoX w rmX0_of0 (sn_qI (fun r S1 => S1 = S ∧ Q r)) sn_noE C 0 0 0 [(0, .ref (w.2.2.1 0)), (1, .int p1), (2, .int p2)] [] S := by
  unfold wpX0_of0
  generalize hQq : (sn_qI (fun r S1 => S1 = S ∧ Q r)) = Qq
  refine sn_aload_n hO 0 rfl dX0_of0_0 ?_
  refine sn_getF hO fX0_16 atX_0 dX0_of0_1 ?_
  refine sn_getFN hO fX0_119 atX_2 dX0_of0_4 ?_
  refine sn_bipush hO kb_6 dX0_of0_7 ?_
  refine sn_iload_n hO 1 rfl dX0_of0_9 ?_
  refine sn_imul hO dX0_of0_10 ?_
  refine sn_iload_n hO 2 rfl dX0_of0_11 ?_
  refine sn_iadd hO dX0_of0_12 ?_
  refine sn_iald hO atX_4 rfl dX0_of0_13 ?_
  subst hQq
  exact fun h => sn_iret hO rfl dX0_of0_14 ⟨rfl, h⟩
theorem ctX0_of0 {w : sn_W} {p1 : Int32} {p2 : Int32} {S : sn_S} {Q : Int32 → Prop} (h : wpX0_of0 w p1 p2 S Q) : sn_Ct LoX w yX0_of0 (ws_ yX0_of0 cX0_of0 3 (some .int)) rmX0_of0 [.ref (w.2.2.1 0), .int p1, .int p2] S (sn_qI (fun r S1 => S1 = S ∧ Q r)) sn_noE := sn_Ct_of (XX_O w) (by decide) (Nat.le_of_ble_eq_true rfl) RX0 rfl (fun C hO => wkX0_of0 hO p1 p2 S Q h)
def rmX0_isNeeded : Room := { frames := 1, cells := 0, slots := 0, locals := 22 }
/-- SnailPost.isNeeded(I)Z -/
def wpX0_isNeeded (w : sn_W) (p1 : Int32) (S : sn_S) (Q : Int32 → Prop) : Prop :=
  sn_lp1 (fun (rc11 : Int32 → Prop) (i10 : Int32) => (((S.1 2 8) ≤ i10 → Q 0) ∧ (¬ (S.1 2 8) ≤ i10 → wpX0_of0 w i10 0 S (fun (r12 : Int32) => ((r12 = p1 → Q 1) ∧ (¬ r12 = p1 → wpX0_of0 w i10 1 S (fun (r13 : Int32) => ((¬ r13 = p1 → rc11 (i10 + 1)) ∧ (r13 = p1 → Q 1))))))))) 0
theorem wkX0_isNeeded {w : sn_W} {C : sn_C} (hO : sn_Ok LoX w C RX0 cX0_isNeeded 3 (some .boolean) [] "isNeeded") (p1 : Int32) (S : sn_S) (Q : Int32 → Prop) : wpX0_isNeeded w p1 S Q → sn_G LoX w rmX0_isNeeded (sn_qI (fun r S1 => S1 = S ∧ Q r)) sn_noE C 0 0 0 [(0, .ref (w.2.2.1 0)), (1, .int p1)] [] S := by
  unfold wpX0_isNeeded
  generalize hQq : (sn_qI (fun r S1 => S1 = S ∧ Q r)) = Qq
  refine sn_iconst hO kc_0 dX0_isNeeded_0 ?_
  refine sn_istore_n hO (lv' := [(2, .int 0), (0, .ref (w.2.2.1 0)), (1, .int p1)]) (by decide) rfl dX0_isNeeded_1 ?_
  refine sn_sub [1, 2, 0] rfl ?_
  refine sn_lp1_walk (Gd := fun (i10 : Int32) => sn_G LoX w rmX0_isNeeded Qq sn_noE C 0 0 2 [(0, .ref (w.2.2.1 0)), (1, .int p1), (2, .int i10)] [] S) ?_ _
  intro rc11 hrc11 i10
  refine sn_iload_n hO 2 rfl dX0_isNeeded_2 ?_
  refine sn_aload_n hO 0 rfl dX0_isNeeded_3 ?_
  refine sn_getF hO fX0_16 atX_0 dX0_isNeeded_4 ?_
  refine sn_getIN hO fX0_116 atX_2 dX0_isNeeded_7 ?_
  refine sn_icmp_ge hO 41 (by decide) dX0_isNeeded_10 ?_ ?_
  · refine sn_iconst hO kc_0 dX0_isNeeded_41 ?_
    subst hQq
    exact fun h => sn_zret hO (ty := .boolean) rfl rfl dX0_isNeeded_42 ⟨rfl, h⟩
  · refine sn_aload_n hO 0 rfl dX0_isNeeded_13 ?_
    refine sn_iload_n hO 2 rfl dX0_isNeeded_14 ?_
    refine sn_iconst hO kc_0 dX0_isNeeded_15 ?_
    refine sn_callV hO (c2 := 0) (s2 := 0) (rm := rmX0_of0) [.int i10, .int 0] cvX0_143 (fun _ => sn_Rv_K atX_0) (fun h => ctX0_of0 h) ⟨Nat.le_of_ble_eq_true rfl, Nat.le_of_ble_eq_true rfl⟩ rfl rfl (Nat.le_of_ble_eq_true rfl) ⟨Nat.le_of_ble_eq_true rfl, Nat.le_of_ble_eq_true rfl, rfl, rfl⟩ dX0_isNeeded_16 (sn_bIp (fun r12 => ?_)) sn_x0
    refine sn_iload_n hO 1 rfl dX0_isNeeded_19 ?_
    refine sn_icmp_eq hO 33 (by decide) dX0_isNeeded_20 ?_ ?_
    · refine sn_iconst hO kc_1 dX0_isNeeded_33 ?_
      subst hQq
      exact fun h => sn_zret hO (ty := .boolean) rfl rfl dX0_isNeeded_34 ⟨rfl, h⟩
    · refine sn_aload_n hO 0 rfl dX0_isNeeded_23 ?_
      refine sn_iload_n hO 2 rfl dX0_isNeeded_24 ?_
      refine sn_iconst hO kc_1 dX0_isNeeded_25 ?_
      refine sn_callV hO (c2 := 0) (s2 := 0) (rm := rmX0_of0) [.int i10, .int 1] cvX0_143 (fun _ => sn_Rv_K atX_0) (fun h => ctX0_of0 h) ⟨Nat.le_of_ble_eq_true rfl, Nat.le_of_ble_eq_true rfl⟩ rfl rfl (Nat.le_of_ble_eq_true rfl) ⟨Nat.le_of_ble_eq_true rfl, Nat.le_of_ble_eq_true rfl, rfl, rfl⟩ dX0_isNeeded_26 (sn_bIp (fun r13 => ?_)) sn_x0
      refine sn_iload_n hO 1 rfl dX0_isNeeded_29 ?_
      refine sn_icmp_ne hO 35 (by decide) dX0_isNeeded_30 ?_ ?_
      · refine sn_iinc hO (lv' := [(2, .int (i10 + 1)), (0, .ref (w.2.2.1 0)), (1, .int p1)]) 2 rfl ki_1 (by decide) rfl dX0_isNeeded_35 ?_
        refine sn_goto hO 2 (by decide) dX0_isNeeded_38 ?_
        refine sn_sub [1, 2, 0] rfl ?_
        exact hrc11 _
      · refine sn_iconst hO kc_1 dX0_isNeeded_33 ?_
        subst hQq
        exact fun h => sn_zret hO (ty := .boolean) rfl rfl dX0_isNeeded_34 ⟨rfl, h⟩
theorem ctX0_isNeeded {w : sn_W} {p1 : Int32} {S : sn_S} {Q : Int32 → Prop} (h : wpX0_isNeeded w p1 S Q) : sn_Ct LoX w yX0_isNeeded (ws_ yX0_isNeeded cX0_isNeeded 3 (some .boolean)) rmX0_isNeeded [.ref (w.2.2.1 0), .int p1] S (sn_qI (fun r S1 => S1 = S ∧ Q r)) sn_noE := sn_Ct_of (XX_O w) (by decide) (Nat.le_of_ble_eq_true rfl) RX0 rfl (fun C hO => wkX0_isNeeded hO p1 S Q h)
def rmX0_salt : Room := { frames := 2, cells := 0, slots := 0, locals := 44 }
/-- SnailPost.salt(II)I -/
def wpX0_salt (w : sn_W) (p1 : Int32) (p2 : Int32) (S : sn_S) (Q : Int32 → sn_S → Prop) : Prop :=
  wpX0_isCell w p1 (fun (r10 : Int32) => sn_jn (κ := Prop) (wpX0_refuse w (-1) S (fun (r12 : Int32) (S13 : sn_S) => Q r12 S13)) (fun (k11 : Prop) => ((r10 = 0 → k11) ∧ (¬ r10 = 0 → wpX0_in w p2 0 1 (fun (r14 : Int32) => ((¬ r14 = 0 → sn_jn (κ := Prop) ((vp_in p1 96 ∧ sn_jn (fun (v16 : Int32) => sn_jn (fun (v18 : Int32) => (vp_in p1 96 ∧ sn_lt (sn_pI S 9 (p1).toNatClampNeg (vp_nar .boolean v18)) (fun S20 => wpX0_told w v16 S20 (fun (r21 : Int32) (S22 : sn_S) => Q r21 S22)))) (fun (k19 : Int32 → Prop) => ((¬ p2 = 1 → k19 0) ∧ (p2 = 1 → k19 1)))) (fun (k17 : Int32 → Prop) => (((S.1 9 (p1).toNatClampNeg) = 0 → k17 0) ∧ (¬ (S.1 9 (p1).toNatClampNeg) = 0 → k17 1))))) (fun (k15 : Prop) => ((¬ p2 = 1 → k15) ∧ (p2 = 1 → wpX0_isNeeded w p1 S (fun (r23 : Int32) => ((r23 = 0 → k15) ∧ (¬ r23 = 0 → wpX0_refuse w (-3) S (fun (r24 : Int32) (S25 : sn_S) => Q r24 S25)))))))) ∧ (r14 = 0 → k11)))))))
theorem wkX0_salt {w : sn_W} {C : sn_C} (hO : sn_Ok LoX w C RX0 cX0_salt 4 (some .int) [] "salt") (p1 : Int32) (p2 : Int32) (S : sn_S) (Q : Int32 → sn_S → Prop) : wpX0_salt w p1 p2 S Q → sn_G LoX w rmX0_salt (sn_qI Q) sn_noE C 0 0 0 [(0, .ref (w.2.2.1 0)), (1, .int p1), (2, .int p2)] [] S := by
  unfold wpX0_salt
  generalize hQq : (sn_qI Q) = Qq
  refine sn_iload_n hO 1 rfl dX0_salt_0 ?_
  refine sn_callS hO (c2 := 0) (s2 := 0) (rm := rmX0_isCell) [.int p1] csX0_132 (fun h => ctX0_isCell h) ⟨Nat.le_of_ble_eq_true rfl, Nat.le_of_ble_eq_true rfl⟩ rfl rfl (Nat.le_of_ble_eq_true rfl) ⟨Nat.le_of_ble_eq_true rfl, Nat.le_of_ble_eq_true rfl, rfl, rfl⟩ dX0_salt_1 (sn_bIp (fun r10 => ?_)) sn_x0
  refine sn_jn_walk (fun (k : Prop) => k → sn_G LoX w rmX0_salt Qq sn_noE C 0 0 16 [(0, .ref (w.2.2.1 0))] [] S) ?_ ?_
  · refine sn_aload_n hO 0 rfl dX0_salt_16 ?_
    refine sn_iconst hO kc_m1 dX0_salt_17 ?_
    refine sn_callV hO (c2 := 0) (s2 := 0) (rm := rmX0_refuse) [.int (-1)] cvX0_122 (fun _ => sn_Rv_K atX_0) (fun h => ctX0_refuse h) ⟨Nat.le_of_ble_eq_true rfl, Nat.le_of_ble_eq_true rfl⟩ rfl rfl (Nat.le_of_ble_eq_true rfl) ⟨Nat.le_of_ble_eq_true rfl, Nat.le_of_ble_eq_true rfl, rfl, rfl⟩ dX0_salt_18 (sn_bI (fun r12 S13 => ?_)) sn_x0
    subst hQq
    exact sn_iret hO rfl dX0_salt_21
  · intro k11 hk11
    refine sn_if_eq hO 16 (by decide) dX0_salt_4 ?_ ?_
    · refine sn_sub [0] rfl ?_
      exact hk11
    · refine sn_iload_n hO 2 rfl dX0_salt_7 ?_
      refine sn_iconst hO kc_0 dX0_salt_8 ?_
      refine sn_iconst hO kc_1 dX0_salt_9 ?_
      refine sn_callS hO (c2 := 0) (s2 := 0) (rm := rmX0_in) [.int p2, .int 0, .int 1] csX0_112 (fun h => ctX0_in h) ⟨Nat.le_of_ble_eq_true rfl, Nat.le_of_ble_eq_true rfl⟩ rfl rfl (Nat.le_of_ble_eq_true rfl) ⟨Nat.le_of_ble_eq_true rfl, Nat.le_of_ble_eq_true rfl, rfl, rfl⟩ dX0_salt_10 (sn_bIp (fun r14 => ?_)) sn_x0
      refine sn_if_ne hO 22 (by decide) dX0_salt_13 ?_ ?_
      · refine sn_iload_n hO 2 rfl dX0_salt_22 ?_
        refine sn_iconst hO kc_1 dX0_salt_23 ?_
        refine sn_jn_walk (fun (k : Prop) => k → sn_G LoX w rmX0_salt Qq sn_noE C 0 0 42 [(0, .ref (w.2.2.1 0)), (1, .int p1), (2, .int p2)] [] S) ?_ ?_
        · refine sn_aload_n hO 0 rfl dX0_salt_42 ?_
          refine sn_getF hO fX0_16 atX_0 dX0_salt_43 ?_
          refine sn_getFN hO fX0_150 atX_2 dX0_salt_46 ?_
          refine sn_iload_n hO 1 rfl dX0_salt_49 ?_
          refine sn_zald hO atX_9 rfl dX0_salt_50 ?_
          refine sn_jn_walk (fun (k : Int32 → Prop) => ∀ (v16 : Int32), k v16 → sn_G LoX w rmX0_salt Qq sn_noE C 0 0 59 [(0, .ref (w.2.2.1 0)), (1, .int p1), (2, .int p2)] [.int v16] S) ?_ ?_
          · intro v16
            refine sn_istore_n hO (lv' := [(3, .int v16), (0, .ref (w.2.2.1 0)), (1, .int p1), (2, .int p2)]) (by decide) rfl dX0_salt_59 ?_
            refine sn_aload_n hO 1 rfl dX0_salt_60 ?_
            refine sn_getF hO fX0_16 atX_0 dX0_salt_61 ?_
            refine sn_getFN hO fX0_150 atX_2 dX0_salt_64 ?_
            refine sn_iload_n hO 2 rfl dX0_salt_67 ?_
            refine sn_iload_n hO 3 rfl dX0_salt_68 ?_
            refine sn_iconst hO kc_1 dX0_salt_69 ?_
            refine sn_jn_walk (fun (k : Int32 → Prop) => ∀ (v18 : Int32), k v18 → sn_G LoX w rmX0_salt Qq sn_noE C 0 0 78 [(0, .ref (w.2.2.1 0)), (3, .int v16)] [.int v18, .int p1, .ref (w.2.2.1 9)] S) ?_ ?_
            · intro v18
              refine sn_zast hO atX_9 rfl dX0_salt_78 ?_
              refine sn_nmS (fun S20 => ?_)
              refine sn_aload_n hO 0 rfl dX0_salt_79 ?_
              refine sn_iload_n hO 1 rfl dX0_salt_80 ?_
              refine sn_callV hO (c2 := 0) (s2 := 0) (rm := rmX0_told) [.int v16] cvX0_129 (fun _ => sn_Rv_K atX_0) (fun h => ctX0_told h) ⟨Nat.le_of_ble_eq_true rfl, Nat.le_of_ble_eq_true rfl⟩ rfl rfl (Nat.le_of_ble_eq_true rfl) ⟨Nat.le_of_ble_eq_true rfl, Nat.le_of_ble_eq_true rfl, rfl, rfl⟩ dX0_salt_81 (sn_bI (fun r21 S22 => ?_)) sn_x0
              subst hQq
              exact sn_iret hO rfl dX0_salt_84
            · intro k19 hk19
              refine sn_icmp_ne hO 77 (by decide) dX0_salt_70 ?_ ?_
              · refine sn_iconst hO kc_0 dX0_salt_77 ?_
                refine sn_sub [1, 0] rfl ?_
                exact hk19 _
              · refine sn_iconst hO kc_1 dX0_salt_73 ?_
                refine sn_goto hO 78 (by decide) dX0_salt_74 ?_
                refine sn_sub [1, 0] rfl ?_
                exact hk19 _
          · intro k17 hk17
            refine sn_if_eq hO 58 (by decide) dX0_salt_51 ?_ ?_
            · refine sn_iconst hO kc_0 dX0_salt_58 ?_
              exact hk17 _
            · refine sn_iconst hO kc_1 dX0_salt_54 ?_
              refine sn_goto hO 59 (by decide) dX0_salt_55 ?_
              exact hk17 _
        · intro k15 hk15
          refine sn_icmp_ne hO 42 (by decide) dX0_salt_24 ?_ ?_
          · exact hk15
          · refine sn_aload_n hO 0 rfl dX0_salt_27 ?_
            refine sn_iload_n hO 1 rfl dX0_salt_28 ?_
            refine sn_callV hO (c2 := 0) (s2 := 0) (rm := rmX0_isNeeded) [.int p1] cvX0_147 (fun _ => sn_Rv_K atX_0) (fun h => ctX0_isNeeded h) ⟨Nat.le_of_ble_eq_true rfl, Nat.le_of_ble_eq_true rfl⟩ rfl rfl (Nat.le_of_ble_eq_true rfl) ⟨Nat.le_of_ble_eq_true rfl, Nat.le_of_ble_eq_true rfl, rfl, rfl⟩ dX0_salt_29 (sn_bIp (fun r23 => ?_)) sn_x0
            refine sn_if_eq hO 42 (by decide) dX0_salt_32 ?_ ?_
            · exact hk15
            · refine sn_aload_n hO 0 rfl dX0_salt_35 ?_
              refine sn_bipush hO kb_m3 dX0_salt_36 ?_
              refine sn_callV hO (c2 := 0) (s2 := 0) (rm := rmX0_refuse) [.int (-3)] cvX0_122 (fun _ => sn_Rv_K atX_0) (fun h => ctX0_refuse h) ⟨Nat.le_of_ble_eq_true rfl, Nat.le_of_ble_eq_true rfl⟩ rfl rfl (Nat.le_of_ble_eq_true rfl) ⟨Nat.le_of_ble_eq_true rfl, Nat.le_of_ble_eq_true rfl, rfl, rfl⟩ dX0_salt_38 (sn_bI (fun r24 S25 => ?_)) sn_x0
              subst hQq
              exact sn_iret hO rfl dX0_salt_41
      · refine sn_sub [0] rfl ?_
        exact hk11
theorem ctX0_salt {w : sn_W} {p1 : Int32} {p2 : Int32} {S : sn_S} {Q : Int32 → sn_S → Prop} (h : wpX0_salt w p1 p2 S Q) : sn_Ct LoX w yX0_salt (ws_ yX0_salt cX0_salt 4 (some .int)) rmX0_salt [.ref (w.2.2.1 0), .int p1, .int p2] S (sn_qI Q) sn_noE := sn_Ct_of (XX_O w) (by decide) (Nat.le_of_ble_eq_true rfl) RX0 rfl (fun C hO => wkX0_salt hO p1 p2 S Q h)
def rmX0_of : Room := { frames := 2, cells := 0, slots := 0, locals := 42 }
/-- SnailPost.of(II)I -/
def wpX0_of (w : sn_W) (p1 : Int32) (p2 : Int32) (S : sn_S) (Q : Int32 → Prop) : Prop :=
  wpX0_isCell w p1 (fun (r10 : Int32) => ((r10 = 0 → Q (-1)) ∧ (¬ r10 = 0 → wpX0_in w p2 0 1 (fun (r11 : Int32) => ((¬ r11 = 0 → ((¬ p2 = 0 → (vp_in p1 96 ∧ (((S.1 9 (p1).toNatClampNeg) = 0 → Q 0) ∧ (¬ (S.1 9 (p1).toNatClampNeg) = 0 → Q 1)))) ∧ (p2 = 0 → (vp_in p1 96 ∧ Q (S.1 3 (p1).toNatClampNeg))))) ∧ (r11 = 0 → Q (-1)))))))
theorem wkX0_of {w : sn_W} {C : sn_C} (hO : sn_Ok LoX w C RX0 cX0_of 3 (some .int) [] "of") (p1 : Int32) (p2 : Int32) (S : sn_S) (Q : Int32 → Prop) : wpX0_of w p1 p2 S Q → sn_G LoX w rmX0_of (sn_qI (fun r S1 => S1 = S ∧ Q r)) sn_noE C 0 0 0 [(0, .ref (w.2.2.1 0)), (1, .int p1), (2, .int p2)] [] S := by
  unfold wpX0_of
  generalize hQq : (sn_qI (fun r S1 => S1 = S ∧ Q r)) = Qq
  refine sn_iload_n hO 1 rfl dX0_of_0 ?_
  refine sn_callS hO (c2 := 0) (s2 := 0) (rm := rmX0_isCell) [.int p1] csX0_132 (fun h => ctX0_isCell h) ⟨Nat.le_of_ble_eq_true rfl, Nat.le_of_ble_eq_true rfl⟩ rfl rfl (Nat.le_of_ble_eq_true rfl) ⟨Nat.le_of_ble_eq_true rfl, Nat.le_of_ble_eq_true rfl, rfl, rfl⟩ dX0_of_1 (sn_bIp (fun r10 => ?_)) sn_x0
  refine sn_if_eq hO 16 (by decide) dX0_of_4 ?_ ?_
  · refine sn_iconst hO kc_m1 dX0_of_16 ?_
    refine sn_goto hO 53 (by decide) dX0_of_17 ?_
    subst hQq
    exact fun h => sn_iret hO rfl dX0_of_53 ⟨rfl, h⟩
  · refine sn_iload_n hO 2 rfl dX0_of_7 ?_
    refine sn_iconst hO kc_0 dX0_of_8 ?_
    refine sn_iconst hO kc_1 dX0_of_9 ?_
    refine sn_callS hO (c2 := 0) (s2 := 0) (rm := rmX0_in) [.int p2, .int 0, .int 1] csX0_112 (fun h => ctX0_in h) ⟨Nat.le_of_ble_eq_true rfl, Nat.le_of_ble_eq_true rfl⟩ rfl rfl (Nat.le_of_ble_eq_true rfl) ⟨Nat.le_of_ble_eq_true rfl, Nat.le_of_ble_eq_true rfl, rfl, rfl⟩ dX0_of_10 (sn_bIp (fun r11 => ?_)) sn_x0
    refine sn_if_ne hO 20 (by decide) dX0_of_13 ?_ ?_
    · refine sn_iload_n hO 2 rfl dX0_of_20 ?_
      refine sn_if_ne hO 36 (by decide) dX0_of_21 ?_ ?_
      · refine sn_aload_n hO 0 rfl dX0_of_36 ?_
        refine sn_getF hO fX0_16 atX_0 dX0_of_37 ?_
        refine sn_getFN hO fX0_150 atX_2 dX0_of_40 ?_
        refine sn_iload_n hO 1 rfl dX0_of_43 ?_
        refine sn_zald hO atX_9 rfl dX0_of_44 ?_
        refine sn_if_eq hO 52 (by decide) dX0_of_45 ?_ ?_
        · refine sn_iconst hO kc_0 dX0_of_52 ?_
          subst hQq
          exact fun h => sn_iret hO rfl dX0_of_53 ⟨rfl, h⟩
        · refine sn_iconst hO kc_1 dX0_of_48 ?_
          refine sn_goto hO 53 (by decide) dX0_of_49 ?_
          subst hQq
          exact fun h => sn_iret hO rfl dX0_of_53 ⟨rfl, h⟩
      · refine sn_aload_n hO 0 rfl dX0_of_24 ?_
        refine sn_getF hO fX0_16 atX_0 dX0_of_25 ?_
        refine sn_getFN hO fX0_136 atX_2 dX0_of_28 ?_
        refine sn_iload_n hO 1 rfl dX0_of_31 ?_
        refine sn_iald hO atX_3 rfl dX0_of_32 ?_
        refine sn_goto hO 53 (by decide) dX0_of_33 ?_
        subst hQq
        exact fun h => sn_iret hO rfl dX0_of_53 ⟨rfl, h⟩
    · refine sn_iconst hO kc_m1 dX0_of_16 ?_
      refine sn_goto hO 53 (by decide) dX0_of_17 ?_
      subst hQq
      exact fun h => sn_iret hO rfl dX0_of_53 ⟨rfl, h⟩
theorem ctX0_of {w : sn_W} {p1 : Int32} {p2 : Int32} {S : sn_S} {Q : Int32 → Prop} (h : wpX0_of w p1 p2 S Q) : sn_Ct LoX w yX0_of (ws_ yX0_of cX0_of 3 (some .int)) rmX0_of [.ref (w.2.2.1 0), .int p1, .int p2] S (sn_qI (fun r S1 => S1 = S ∧ Q r)) sn_noE := sn_Ct_of (XX_O w) (by decide) (Nat.le_of_ble_eq_true rfl) RX0 rfl (fun C hO => wkX0_of hO p1 p2 S Q h)
def rmX0_isFact : Room := { frames := 2, cells := 0, slots := 0, locals := 42 }
/-- SnailPost.isFact(II)Z -/
def wpX0_isFact (w : sn_W) (p1 : Int32) (p2 : Int32) (Q : Int32 → Prop) : Prop :=
  sn_jn (κ := Prop) (wpX0_isCell w p2 (fun (r11 : Int32) => (narrow .boolean (.int r11) = .int r11 ∧ Q r11))) (fun (k10 : Prop) => sn_sw p1 0 [k10, k10, wpX0_in w p2 1 12 (fun (r12 : Int32) => (narrow .boolean (.int r12) = .int r12 ∧ Q r12)), wpX0_in w p2 0 4 (fun (r13 : Int32) => (narrow .boolean (.int r13) = .int r13 ∧ Q r13)), wpX0_in w p2 0 100 (fun (r14 : Int32) => (narrow .boolean (.int r14) = .int r14 ∧ Q r14)), wpX0_in w p2 1 63 (fun (r15 : Int32) => (narrow .boolean (.int r15) = .int r15 ∧ Q r15))] (Q 0))
theorem wkX0_isFact {w : sn_W} {C : sn_C} (hO : sn_Ok LoX w C RX0 cX0_isFact 2 (some .boolean) [] "isFact") (p1 : Int32) (p2 : Int32) (S : sn_S) (Q : Int32 → Prop) : wpX0_isFact w p1 p2 Q → sn_G LoX w rmX0_isFact (sn_qI (fun r S1 => S1 = S ∧ Q r)) sn_noE C 0 0 0 [(0, .int p1), (1, .int p2)] [] S := by
  unfold wpX0_isFact
  generalize hQq : (sn_qI (fun r S1 => S1 = S ∧ Q r)) = Qq
  refine sn_iload_n hO 0 rfl dX0_isFact_0 ?_
  refine sn_jn_walk (fun (k : Prop) => k → sn_G LoX w rmX0_isFact Qq sn_noE C 0 0 40 [(1, .int p2)] [] S) ?_ ?_
  · refine sn_iload_n hO 0 rfl dX0_isFact_40 ?_
    refine sn_callS hO (c2 := 0) (s2 := 0) (rm := rmX0_isCell) [.int p2] csX0_132 (fun h => ctX0_isCell h) ⟨Nat.le_of_ble_eq_true rfl, Nat.le_of_ble_eq_true rfl⟩ rfl rfl (Nat.le_of_ble_eq_true rfl) ⟨Nat.le_of_ble_eq_true rfl, Nat.le_of_ble_eq_true rfl, rfl, rfl⟩ dX0_isFact_41 (sn_bIp (fun r11 => ?_)) sn_x0
    subst hQq
    exact fun h => sn_zretP hO rfl dX0_isFact_44 ⟨h.1, rfl, h.2⟩
  · intro k10 hk10
    refine sn_tsw hO [40, 40, 45, 53, 60, 68] 76 (by decide) (by decide) (by decide) dX0_isFact_1 ?_ ?_
    · refine ⟨?_, ?_, ?_, ?_, ?_, ?_, trivial⟩
      · refine sn_sub [1] rfl ?_
        exact hk10
      · refine sn_sub [1] rfl ?_
        exact hk10
      · refine sn_iload_n hO 1 rfl dX0_isFact_45 ?_
        refine sn_iconst hO kc_1 dX0_isFact_46 ?_
        refine sn_bipush hO kb_12 dX0_isFact_47 ?_
        refine sn_callS hO (c2 := 0) (s2 := 0) (rm := rmX0_in) [.int p2, .int 1, .int 12] csX0_112 (fun h => ctX0_in h) ⟨Nat.le_of_ble_eq_true rfl, Nat.le_of_ble_eq_true rfl⟩ rfl rfl (Nat.le_of_ble_eq_true rfl) ⟨Nat.le_of_ble_eq_true rfl, Nat.le_of_ble_eq_true rfl, rfl, rfl⟩ dX0_isFact_49 (sn_bIp (fun r12 => ?_)) sn_x0
        subst hQq
        exact fun h => sn_zretP hO rfl dX0_isFact_52 ⟨h.1, rfl, h.2⟩
      · refine sn_iload_n hO 1 rfl dX0_isFact_53 ?_
        refine sn_iconst hO kc_0 dX0_isFact_54 ?_
        refine sn_iconst hO kc_4 dX0_isFact_55 ?_
        refine sn_callS hO (c2 := 0) (s2 := 0) (rm := rmX0_in) [.int p2, .int 0, .int 4] csX0_112 (fun h => ctX0_in h) ⟨Nat.le_of_ble_eq_true rfl, Nat.le_of_ble_eq_true rfl⟩ rfl rfl (Nat.le_of_ble_eq_true rfl) ⟨Nat.le_of_ble_eq_true rfl, Nat.le_of_ble_eq_true rfl, rfl, rfl⟩ dX0_isFact_56 (sn_bIp (fun r13 => ?_)) sn_x0
        subst hQq
        exact fun h => sn_zretP hO rfl dX0_isFact_59 ⟨h.1, rfl, h.2⟩
      · refine sn_iload_n hO 1 rfl dX0_isFact_60 ?_
        refine sn_iconst hO kc_0 dX0_isFact_61 ?_
        refine sn_bipush hO kb_100 dX0_isFact_62 ?_
        refine sn_callS hO (c2 := 0) (s2 := 0) (rm := rmX0_in) [.int p2, .int 0, .int 100] csX0_112 (fun h => ctX0_in h) ⟨Nat.le_of_ble_eq_true rfl, Nat.le_of_ble_eq_true rfl⟩ rfl rfl (Nat.le_of_ble_eq_true rfl) ⟨Nat.le_of_ble_eq_true rfl, Nat.le_of_ble_eq_true rfl, rfl, rfl⟩ dX0_isFact_64 (sn_bIp (fun r14 => ?_)) sn_x0
        subst hQq
        exact fun h => sn_zretP hO rfl dX0_isFact_67 ⟨h.1, rfl, h.2⟩
      · refine sn_iload_n hO 1 rfl dX0_isFact_68 ?_
        refine sn_iconst hO kc_1 dX0_isFact_69 ?_
        refine sn_bipush hO kb_63 dX0_isFact_70 ?_
        refine sn_callS hO (c2 := 0) (s2 := 0) (rm := rmX0_in) [.int p2, .int 1, .int 63] csX0_112 (fun h => ctX0_in h) ⟨Nat.le_of_ble_eq_true rfl, Nat.le_of_ble_eq_true rfl⟩ rfl rfl (Nat.le_of_ble_eq_true rfl) ⟨Nat.le_of_ble_eq_true rfl, Nat.le_of_ble_eq_true rfl, rfl, rfl⟩ dX0_isFact_72 (sn_bIp (fun r15 => ?_)) sn_x0
        subst hQq
        exact fun h => sn_zretP hO rfl dX0_isFact_75 ⟨h.1, rfl, h.2⟩
    · refine sn_iconst hO kc_0 dX0_isFact_76 ?_
      subst hQq
      exact fun h => sn_zret hO (ty := .boolean) rfl rfl dX0_isFact_77 ⟨rfl, h⟩
theorem ctX0_isFact {w : sn_W} {p1 : Int32} {p2 : Int32} {S : sn_S} {Q : Int32 → Prop} (h : wpX0_isFact w p1 p2 Q) : sn_Ct LoX w yX0_isFact (ws_ yX0_isFact cX0_isFact 2 (some .boolean)) rmX0_isFact [.int p1, .int p2] S (sn_qI (fun r S1 => S1 = S ∧ Q r)) sn_noE := sn_Ct_of (XX_O w) (by decide) (Nat.le_of_ble_eq_true rfl) RX0 rfl (fun C hO => wkX0_isFact hO p1 p2 S Q h)
def rmX0_snail : Room := { frames := 3, cells := 0, slots := 0, locals := 63 }
/-- SnailPost.snail(IIII)I -/
def wpX0_snail (w : sn_W) (p1 : Int32) (p2 : Int32) (p3 : Int32) (p4 : Int32) (S : sn_S) (Q : Int32 → sn_S → Prop) : Prop :=
  wpX0_isFact w 0 p1 (fun (r10 : Int32) => sn_jn (κ := Prop) (wpX0_refuse w (-1) S (fun (r12 : Int32) (S13 : sn_S) => Q r12 S13)) (fun (k11 : Prop) => ((r10 = 0 → k11) ∧ (¬ r10 = 0 → wpX0_isFact w 1 p2 (fun (r14 : Int32) => ((r14 = 0 → k11) ∧ (¬ r14 = 0 → wpX0_isFact w 2 p3 (fun (r15 : Int32) => ((r15 = 0 → k11) ∧ (¬ r15 = 0 → wpX0_isFact w 3 p4 (fun (r16 : Int32) => ((¬ r16 = 0 → (vp_in p1 96 ∧ sn_jn (κ := Prop) (wpX0_refuse w (-3) S (fun (r18 : Int32) (S19 : sn_S) => Q r18 S19)) (fun (k17 : Prop) => ((¬ (S.1 9 (p1).toNatClampNeg) = 0 → k17) ∧ ((S.1 9 (p1).toNatClampNeg) = 0 → (vp_in p2 96 ∧ (((S.1 9 (p2).toNatClampNeg) = 0 → ((¬ (S.1 2 8) = 6 → sn_lt (6 * (S.1 2 8)) (fun x20 => (vp_in (x20 + 0) 36 ∧ sn_lt (sn_pI S 4 ((x20 + 0)).toNatClampNeg p1) (fun S21 => (vp_in (x20 + 1) 36 ∧ sn_lt (sn_pI S21 4 ((x20 + 1)).toNatClampNeg p2) (fun S22 => (vp_in (x20 + 2) 36 ∧ sn_lt (sn_pI S22 4 ((x20 + 2)).toNatClampNeg p3) (fun S23 => (vp_in (x20 + 3) 36 ∧ sn_lt (sn_pI S23 4 ((x20 + 3)).toNatClampNeg p4) (fun S24 => (vp_in (x20 + 4) 36 ∧ sn_lt (sn_pI S24 4 ((x20 + 4)).toNatClampNeg 0) (fun S25 => (vp_in (x20 + 5) 36 ∧ sn_lt (sn_pI S25 4 ((x20 + 5)).toNatClampNeg 1) (fun S26 => sn_lt (sn_pI S26 2 8 ((S26.1 2 8) + 1)) (fun S27 => wpX0_told w ((S27.1 2 8) - 1) S27 (fun (r28 : Int32) (S29 : sn_S) => Q r28 S29)))))))))))))))) ∧ ((S.1 2 8) = 6 → wpX0_refuse w (-5) S (fun (r30 : Int32) (S31 : sn_S) => Q r30 S31)))) ∧ (¬ (S.1 9 (p2).toNatClampNeg) = 0 → k17)))))))) ∧ (r16 = 0 → k11)))))))))))))
theorem wkX0_snail {w : sn_W} {C : sn_C} (hO : sn_Ok LoX w C RX0 cX0_snail 6 (some .int) [] "snail") (p1 : Int32) (p2 : Int32) (p3 : Int32) (p4 : Int32) (S : sn_S) (Q : Int32 → sn_S → Prop) : wpX0_snail w p1 p2 p3 p4 S Q → sn_G LoX w rmX0_snail (sn_qI Q) sn_noE C 0 0 0 [(0, .ref (w.2.2.1 0)), (1, .int p1), (2, .int p2), (3, .int p3), (4, .int p4)] [] S := by
  unfold wpX0_snail
  generalize hQq : (sn_qI Q) = Qq
  refine sn_iconst hO kc_0 dX0_snail_0 ?_
  refine sn_iload_n hO 1 rfl dX0_snail_1 ?_
  refine sn_callS hO (c2 := 0) (s2 := 0) (rm := rmX0_isFact) [.int 0, .int p1] csX0_154 (fun h => ctX0_isFact h) ⟨Nat.le_of_ble_eq_true rfl, Nat.le_of_ble_eq_true rfl⟩ rfl rfl (Nat.le_of_ble_eq_true rfl) ⟨Nat.le_of_ble_eq_true rfl, Nat.le_of_ble_eq_true rfl, rfl, rfl⟩ dX0_snail_2 (sn_bIp (fun r10 => ?_)) sn_x0
  refine sn_jn_walk (fun (k : Prop) => k → sn_G LoX w rmX0_snail Qq sn_noE C 0 0 33 [(0, .ref (w.2.2.1 0))] [] S) ?_ ?_
  · refine sn_aload_n hO 0 rfl dX0_snail_33 ?_
    refine sn_iconst hO kc_m1 dX0_snail_34 ?_
    refine sn_callV hO (c2 := 0) (s2 := 0) (rm := rmX0_refuse) [.int (-1)] cvX0_122 (fun _ => sn_Rv_K atX_0) (fun h => ctX0_refuse h) ⟨Nat.le_of_ble_eq_true rfl, Nat.le_of_ble_eq_true rfl⟩ rfl rfl (Nat.le_of_ble_eq_true rfl) ⟨Nat.le_of_ble_eq_true rfl, Nat.le_of_ble_eq_true rfl, rfl, rfl⟩ dX0_snail_35 (sn_bI (fun r12 S13 => ?_)) sn_x0
    subst hQq
    exact sn_iret hO rfl dX0_snail_38
  · intro k11 hk11
    refine sn_if_eq hO 33 (by decide) dX0_snail_5 ?_ ?_
    · refine sn_sub [0] rfl ?_
      exact hk11
    · refine sn_iconst hO kc_1 dX0_snail_8 ?_
      refine sn_iload_n hO 2 rfl dX0_snail_9 ?_
      refine sn_callS hO (c2 := 0) (s2 := 0) (rm := rmX0_isFact) [.int 1, .int p2] csX0_154 (fun h => ctX0_isFact h) ⟨Nat.le_of_ble_eq_true rfl, Nat.le_of_ble_eq_true rfl⟩ rfl rfl (Nat.le_of_ble_eq_true rfl) ⟨Nat.le_of_ble_eq_true rfl, Nat.le_of_ble_eq_true rfl, rfl, rfl⟩ dX0_snail_10 (sn_bIp (fun r14 => ?_)) sn_x0
      refine sn_if_eq hO 33 (by decide) dX0_snail_13 ?_ ?_
      · refine sn_sub [0] rfl ?_
        exact hk11
      · refine sn_iconst hO kc_2 dX0_snail_16 ?_
        refine sn_iload_n hO 3 rfl dX0_snail_17 ?_
        refine sn_callS hO (c2 := 0) (s2 := 0) (rm := rmX0_isFact) [.int 2, .int p3] csX0_154 (fun h => ctX0_isFact h) ⟨Nat.le_of_ble_eq_true rfl, Nat.le_of_ble_eq_true rfl⟩ rfl rfl (Nat.le_of_ble_eq_true rfl) ⟨Nat.le_of_ble_eq_true rfl, Nat.le_of_ble_eq_true rfl, rfl, rfl⟩ dX0_snail_18 (sn_bIp (fun r15 => ?_)) sn_x0
        refine sn_if_eq hO 33 (by decide) dX0_snail_21 ?_ ?_
        · refine sn_sub [0] rfl ?_
          exact hk11
        · refine sn_iconst hO kc_3 dX0_snail_24 ?_
          refine sn_iload hO 4 rfl dX0_snail_25 ?_
          refine sn_callS hO (c2 := 0) (s2 := 0) (rm := rmX0_isFact) [.int 3, .int p4] csX0_154 (fun h => ctX0_isFact h) ⟨Nat.le_of_ble_eq_true rfl, Nat.le_of_ble_eq_true rfl⟩ rfl rfl (Nat.le_of_ble_eq_true rfl) ⟨Nat.le_of_ble_eq_true rfl, Nat.le_of_ble_eq_true rfl, rfl, rfl⟩ dX0_snail_27 (sn_bIp (fun r16 => ?_)) sn_x0
          refine sn_if_ne hO 39 (by decide) dX0_snail_30 ?_ ?_
          · refine sn_aload_n hO 0 rfl dX0_snail_39 ?_
            refine sn_getF hO fX0_16 atX_0 dX0_snail_40 ?_
            refine sn_getFN hO fX0_150 atX_2 dX0_snail_43 ?_
            refine sn_iload_n hO 1 rfl dX0_snail_46 ?_
            refine sn_zald hO atX_9 rfl dX0_snail_47 ?_
            refine sn_jn_walk (fun (k : Prop) => k → sn_G LoX w rmX0_snail Qq sn_noE C 0 0 63 [(0, .ref (w.2.2.1 0))] [] S) ?_ ?_
            · refine sn_aload_n hO 0 rfl dX0_snail_63 ?_
              refine sn_bipush hO kb_m3 dX0_snail_64 ?_
              refine sn_callV hO (c2 := 0) (s2 := 0) (rm := rmX0_refuse) [.int (-3)] cvX0_122 (fun _ => sn_Rv_K atX_0) (fun h => ctX0_refuse h) ⟨Nat.le_of_ble_eq_true rfl, Nat.le_of_ble_eq_true rfl⟩ rfl rfl (Nat.le_of_ble_eq_true rfl) ⟨Nat.le_of_ble_eq_true rfl, Nat.le_of_ble_eq_true rfl, rfl, rfl⟩ dX0_snail_66 (sn_bI (fun r18 S19 => ?_)) sn_x0
              subst hQq
              exact sn_iret hO rfl dX0_snail_69
            · intro k17 hk17
              refine sn_if_ne hO 63 (by decide) dX0_snail_48 ?_ ?_
              · refine sn_sub [0] rfl ?_
                exact hk17
              · refine sn_aload_n hO 0 rfl dX0_snail_51 ?_
                refine sn_getF hO fX0_16 atX_0 dX0_snail_52 ?_
                refine sn_getFN hO fX0_150 atX_2 dX0_snail_55 ?_
                refine sn_iload_n hO 2 rfl dX0_snail_58 ?_
                refine sn_zald hO atX_9 rfl dX0_snail_59 ?_
                refine sn_if_eq hO 70 (by decide) dX0_snail_60 ?_ ?_
                · refine sn_aload_n hO 0 rfl dX0_snail_70 ?_
                  refine sn_getF hO fX0_16 atX_0 dX0_snail_71 ?_
                  refine sn_getIN hO fX0_116 atX_2 dX0_snail_74 ?_
                  refine sn_bipush hO kb_6 dX0_snail_77 ?_
                  refine sn_icmp_ne hO 89 (by decide) dX0_snail_79 ?_ ?_
                  · refine sn_bipush hO kb_6 dX0_snail_89 ?_
                    refine sn_aload_n hO 0 rfl dX0_snail_91 ?_
                    refine sn_getF hO fX0_16 atX_0 dX0_snail_92 ?_
                    refine sn_getIN hO fX0_116 atX_2 dX0_snail_95 ?_
                    refine sn_imul hO dX0_snail_98 ?_
                    refine sn_nmI (fun x20 => ?_)
                    refine sn_istore hO (lv' := [(5, .int x20), (0, .ref (w.2.2.1 0)), (1, .int p1), (2, .int p2), (3, .int p3), (4, .int p4)]) (by decide) rfl dX0_snail_99 ?_
                    refine sn_aload_n hO 1 rfl dX0_snail_101 ?_
                    refine sn_getF hO fX0_16 atX_0 dX0_snail_102 ?_
                    refine sn_getFN hO fX0_119 atX_2 dX0_snail_105 ?_
                    refine sn_iload hO 0 rfl dX0_snail_108 ?_
                    refine sn_iconst hO kc_0 dX0_snail_110 ?_
                    refine sn_iadd hO dX0_snail_111 ?_
                    refine sn_iload_n hO 2 rfl dX0_snail_112 ?_
                    refine sn_iast hO atX_4 rfl dX0_snail_113 ?_
                    refine sn_nmS (fun S21 => ?_)
                    refine sn_aload_n hO 1 rfl dX0_snail_114 ?_
                    refine sn_getF hO fX0_16 atX_0 dX0_snail_115 ?_
                    refine sn_getFN hO fX0_119 atX_2 dX0_snail_118 ?_
                    refine sn_iload hO 0 rfl dX0_snail_121 ?_
                    refine sn_iconst hO kc_1 dX0_snail_123 ?_
                    refine sn_iadd hO dX0_snail_124 ?_
                    refine sn_iload_n hO 3 rfl dX0_snail_125 ?_
                    refine sn_iast hO atX_4 rfl dX0_snail_126 ?_
                    refine sn_nmS (fun S22 => ?_)
                    refine sn_aload_n hO 1 rfl dX0_snail_127 ?_
                    refine sn_getF hO fX0_16 atX_0 dX0_snail_128 ?_
                    refine sn_getFN hO fX0_119 atX_2 dX0_snail_131 ?_
                    refine sn_iload hO 0 rfl dX0_snail_134 ?_
                    refine sn_iconst hO kc_2 dX0_snail_136 ?_
                    refine sn_iadd hO dX0_snail_137 ?_
                    refine sn_iload_n hO 4 rfl dX0_snail_138 ?_
                    refine sn_iast hO atX_4 rfl dX0_snail_139 ?_
                    refine sn_nmS (fun S23 => ?_)
                    refine sn_aload_n hO 1 rfl dX0_snail_140 ?_
                    refine sn_getF hO fX0_16 atX_0 dX0_snail_141 ?_
                    refine sn_getFN hO fX0_119 atX_2 dX0_snail_144 ?_
                    refine sn_iload hO 0 rfl dX0_snail_147 ?_
                    refine sn_iconst hO kc_3 dX0_snail_149 ?_
                    refine sn_iadd hO dX0_snail_150 ?_
                    refine sn_iload hO 5 rfl dX0_snail_151 ?_
                    refine sn_iast hO atX_4 rfl dX0_snail_153 ?_
                    refine sn_nmS (fun S24 => ?_)
                    refine sn_aload_n hO 1 rfl dX0_snail_154 ?_
                    refine sn_getF hO fX0_16 atX_0 dX0_snail_155 ?_
                    refine sn_getFN hO fX0_119 atX_2 dX0_snail_158 ?_
                    refine sn_iload hO 0 rfl dX0_snail_161 ?_
                    refine sn_iconst hO kc_4 dX0_snail_163 ?_
                    refine sn_iadd hO dX0_snail_164 ?_
                    refine sn_iconst hO kc_0 dX0_snail_165 ?_
                    refine sn_iast hO atX_4 rfl dX0_snail_166 ?_
                    refine sn_nmS (fun S25 => ?_)
                    refine sn_aload_n hO 1 rfl dX0_snail_167 ?_
                    refine sn_getF hO fX0_16 atX_0 dX0_snail_168 ?_
                    refine sn_getFN hO fX0_119 atX_2 dX0_snail_171 ?_
                    refine sn_iload hO 0 rfl dX0_snail_174 ?_
                    refine sn_iconst hO kc_5 dX0_snail_176 ?_
                    refine sn_iadd hO dX0_snail_177 ?_
                    refine sn_iconst hO kc_1 dX0_snail_178 ?_
                    refine sn_iast hO atX_4 rfl dX0_snail_179 ?_
                    refine sn_nmS (fun S26 => ?_)
                    refine sn_aload_n hO 1 rfl dX0_snail_180 ?_
                    refine sn_getF hO fX0_16 atX_0 dX0_snail_181 ?_
                    refine sn_dup hO rfl dX0_snail_184 ?_
                    refine sn_getIN hO fX0_116 atX_2 dX0_snail_185 ?_
                    refine sn_iconst hO kc_1 dX0_snail_188 ?_
                    refine sn_iadd hO dX0_snail_189 ?_
                    refine sn_putIN hO fX0_116 atX_2 rfl rfl dX0_snail_190 ?_
                    refine sn_nmS (fun S27 => ?_)
                    refine sn_aload_n hO 1 rfl dX0_snail_193 ?_
                    refine sn_aload_n hO 1 rfl dX0_snail_194 ?_
                    refine sn_getF hO fX0_16 atX_0 dX0_snail_195 ?_
                    refine sn_getIN hO fX0_116 atX_2 dX0_snail_198 ?_
                    refine sn_iconst hO kc_1 dX0_snail_201 ?_
                    refine sn_isub hO dX0_snail_202 ?_
                    refine sn_callV hO (c2 := 0) (s2 := 0) (rm := rmX0_told) [.int ((S27.1 2 8) - 1)] cvX0_129 (fun _ => sn_Rv_K atX_0) (fun h => ctX0_told h) ⟨Nat.le_of_ble_eq_true rfl, Nat.le_of_ble_eq_true rfl⟩ rfl rfl (Nat.le_of_ble_eq_true rfl) ⟨Nat.le_of_ble_eq_true rfl, Nat.le_of_ble_eq_true rfl, rfl, rfl⟩ dX0_snail_203 (sn_bI (fun r28 S29 => ?_)) sn_x0
                    subst hQq
                    exact sn_iret hO rfl dX0_snail_206
                  · refine sn_aload_n hO 0 rfl dX0_snail_82 ?_
                    refine sn_bipush hO kb_m5 dX0_snail_83 ?_
                    refine sn_callV hO (c2 := 0) (s2 := 0) (rm := rmX0_refuse) [.int (-5)] cvX0_122 (fun _ => sn_Rv_K atX_0) (fun h => ctX0_refuse h) ⟨Nat.le_of_ble_eq_true rfl, Nat.le_of_ble_eq_true rfl⟩ rfl rfl (Nat.le_of_ble_eq_true rfl) ⟨Nat.le_of_ble_eq_true rfl, Nat.le_of_ble_eq_true rfl, rfl, rfl⟩ dX0_snail_85 (sn_bI (fun r30 S31 => ?_)) sn_x0
                    subst hQq
                    exact sn_iret hO rfl dX0_snail_88
                · refine sn_sub [0] rfl ?_
                  exact hk17
          · refine sn_sub [0] rfl ?_
            exact hk11
theorem ctX0_snail {w : sn_W} {p1 : Int32} {p2 : Int32} {p3 : Int32} {p4 : Int32} {S : sn_S} {Q : Int32 → sn_S → Prop} (h : wpX0_snail w p1 p2 p3 p4 S Q) : sn_Ct LoX w yX0_snail (ws_ yX0_snail cX0_snail 6 (some .int)) rmX0_snail [.ref (w.2.2.1 0), .int p1, .int p2, .int p3, .int p4] S (sn_qI Q) sn_noE := sn_Ct_of (XX_O w) (by decide) (Nat.le_of_ble_eq_true rfl) RX0 rfl (fun C hO => wkX0_snail hO p1 p2 p3 p4 S Q h)
def rmX0_isSnail : Room := { frames := 1, cells := 0, slots := 0, locals := 22 }
/-- SnailPost.isSnail(I)Z -/
def wpX0_isSnail (w : sn_W) (p1 : Int32) (S : sn_S) (Q : Int32 → Prop) : Prop :=
  wpX0_in w p1 0 ((S.1 2 8) - 1) (fun (r10 : Int32) => (narrow .boolean (.int r10) = .int r10 ∧ Q r10))
theorem wkX0_isSnail {w : sn_W} {C : sn_C} (hO : sn_Ok LoX w C RX0 cX0_isSnail 2 (some .boolean) [] "isSnail") (p1 : Int32) (S : sn_S) (Q : Int32 → Prop) : wpX0_isSnail w p1 S Q → sn_G LoX w rmX0_isSnail (sn_qI (fun r S1 => S1 = S ∧ Q r)) sn_noE C 0 0 0 [(0, .ref (w.2.2.1 0)), (1, .int p1)] [] S := by
  unfold wpX0_isSnail
  generalize hQq : (sn_qI (fun r S1 => S1 = S ∧ Q r)) = Qq
  refine sn_iload_n hO 1 rfl dX0_isSnail_0 ?_
  refine sn_iconst hO kc_0 dX0_isSnail_1 ?_
  refine sn_aload_n hO 0 rfl dX0_isSnail_2 ?_
  refine sn_getF hO fX0_16 atX_0 dX0_isSnail_3 ?_
  refine sn_getIN hO fX0_116 atX_2 dX0_isSnail_6 ?_
  refine sn_iconst hO kc_1 dX0_isSnail_9 ?_
  refine sn_isub hO dX0_isSnail_10 ?_
  refine sn_callS hO (c2 := 0) (s2 := 0) (rm := rmX0_in) [.int p1, .int 0, .int ((S.1 2 8) - 1)] csX0_112 (fun h => ctX0_in h) ⟨Nat.le_of_ble_eq_true rfl, Nat.le_of_ble_eq_true rfl⟩ rfl rfl (Nat.le_of_ble_eq_true rfl) ⟨Nat.le_of_ble_eq_true rfl, Nat.le_of_ble_eq_true rfl, rfl, rfl⟩ dX0_isSnail_11 (sn_bIp (fun r10 => ?_)) sn_x0
  subst hQq
  exact fun h => sn_zretP hO rfl dX0_isSnail_14 ⟨h.1, rfl, h.2⟩
theorem ctX0_isSnail {w : sn_W} {p1 : Int32} {S : sn_S} {Q : Int32 → Prop} (h : wpX0_isSnail w p1 S Q) : sn_Ct LoX w yX0_isSnail (ws_ yX0_isSnail cX0_isSnail 2 (some .boolean)) rmX0_isSnail [.ref (w.2.2.1 0), .int p1] S (sn_qI (fun r S1 => S1 = S ∧ Q r)) sn_noE := sn_Ct_of (XX_O w) (by decide) (Nat.le_of_ble_eq_true rfl) RX0 rfl (fun C hO => wkX0_isSnail hO p1 S Q h)
def rmX0_put : Room := { frames := 3, cells := 0, slots := 0, locals := 66 }
/-- SnailPost.put(III)I -/
def wpX0_put (w : sn_W) (p1 : Int32) (p2 : Int32) (p3 : Int32) (S : sn_S) (Q : Int32 → sn_S → Prop) : Prop :=
  wpX0_isFact w p2 p3 (fun (r10 : Int32) => ((¬ r10 = 0 → wpX0_isSnail w p1 S (fun (r11 : Int32) => ((¬ r11 = 0 → sn_jn (κ := Prop) (wpX0_replaces w 4 36 ((6 * p1) + p2) p3 S (fun (r13 : Int32) (S14 : sn_S) => Q r13 S14)) (fun (k12 : Prop) => ((1 < p2 → k12) ∧ (¬ 1 < p2 → (vp_in p3 96 ∧ (((S.1 9 (p3).toNatClampNeg) = 0 → k12) ∧ (¬ (S.1 9 (p3).toNatClampNeg) = 0 → wpX0_refuse w (-3) S (fun (r15 : Int32) (S16 : sn_S) => Q r15 S16)))))))) ∧ (r11 = 0 → wpX0_refuse w (-2) S (fun (r17 : Int32) (S18 : sn_S) => Q r17 S18))))) ∧ (r10 = 0 → wpX0_refuse w (-1) S (fun (r19 : Int32) (S20 : sn_S) => Q r19 S20))))
theorem wkX0_put {w : sn_W} {C : sn_C} (hO : sn_Ok LoX w C RX0 cX0_put 4 (some .int) [] "put") (p1 : Int32) (p2 : Int32) (p3 : Int32) (S : sn_S) (Q : Int32 → sn_S → Prop) : wpX0_put w p1 p2 p3 S Q → sn_G LoX w rmX0_put (sn_qI Q) sn_noE C 0 0 0 [(0, .ref (w.2.2.1 0)), (1, .int p1), (2, .int p2), (3, .int p3)] [] S := by
  unfold wpX0_put
  generalize hQq : (sn_qI Q) = Qq
  refine sn_iload_n hO 2 rfl dX0_put_0 ?_
  refine sn_iload_n hO 3 rfl dX0_put_1 ?_
  refine sn_callS hO (c2 := 0) (s2 := 0) (rm := rmX0_isFact) [.int p2, .int p3] csX0_154 (fun h => ctX0_isFact h) ⟨Nat.le_of_ble_eq_true rfl, Nat.le_of_ble_eq_true rfl⟩ rfl rfl (Nat.le_of_ble_eq_true rfl) ⟨Nat.le_of_ble_eq_true rfl, Nat.le_of_ble_eq_true rfl, rfl, rfl⟩ dX0_put_2 (sn_bIp (fun r10 => ?_)) sn_x0
  refine sn_if_ne hO 14 (by decide) dX0_put_5 ?_ ?_
  · refine sn_aload_n hO 0 rfl dX0_put_14 ?_
    refine sn_iload_n hO 1 rfl dX0_put_15 ?_
    refine sn_callV hO (c2 := 0) (s2 := 0) (rm := rmX0_isSnail) [.int p1] cvX0_158 (fun _ => sn_Rv_K atX_0) (fun h => ctX0_isSnail h) ⟨Nat.le_of_ble_eq_true rfl, Nat.le_of_ble_eq_true rfl⟩ rfl rfl (Nat.le_of_ble_eq_true rfl) ⟨Nat.le_of_ble_eq_true rfl, Nat.le_of_ble_eq_true rfl, rfl, rfl⟩ dX0_put_16 (sn_bIp (fun r11 => ?_)) sn_x0
    refine sn_if_ne hO 29 (by decide) dX0_put_19 ?_ ?_
    · refine sn_iload_n hO 2 rfl dX0_put_29 ?_
      refine sn_iconst hO kc_1 dX0_put_30 ?_
      refine sn_jn_walk (fun (k : Prop) => k → sn_G LoX w rmX0_put Qq sn_noE C 0 0 55 [(0, .ref (w.2.2.1 0)), (1, .int p1), (2, .int p2), (3, .int p3)] [] S) ?_ ?_
      · refine sn_aload_n hO 0 rfl dX0_put_55 ?_
        refine sn_aload_n hO 0 rfl dX0_put_56 ?_
        refine sn_getF hO fX0_16 atX_0 dX0_put_57 ?_
        refine sn_getFN hO fX0_119 atX_2 dX0_put_60 ?_
        refine sn_bipush hO kb_6 dX0_put_63 ?_
        refine sn_iload_n hO 1 rfl dX0_put_65 ?_
        refine sn_imul hO dX0_put_66 ?_
        refine sn_iload_n hO 2 rfl dX0_put_67 ?_
        refine sn_iadd hO dX0_put_68 ?_
        refine sn_iload_n hO 3 rfl dX0_put_69 ?_
        refine sn_callV hO (c2 := 0) (s2 := 0) (rm := rmX0_replaces) [.ref (w.2.2.1 4), .int ((6 * p1) + p2), .int p3] cvX0_139 (fun _ => sn_Rv_K atX_0) (fun h => ctX0_replaces atX_4 h) ⟨Nat.le_of_ble_eq_true rfl, Nat.le_of_ble_eq_true rfl⟩ rfl rfl (Nat.le_of_ble_eq_true rfl) ⟨Nat.le_of_ble_eq_true rfl, Nat.le_of_ble_eq_true rfl, rfl, rfl⟩ dX0_put_70 (sn_bI (fun r13 S14 => ?_)) sn_x0
        subst hQq
        exact sn_iret hO rfl dX0_put_73
      · intro k12 hk12
        refine sn_icmp_gt hO 55 (by decide) dX0_put_31 ?_ ?_
        · exact hk12
        · refine sn_aload_n hO 0 rfl dX0_put_34 ?_
          refine sn_getF hO fX0_16 atX_0 dX0_put_35 ?_
          refine sn_getFN hO fX0_150 atX_2 dX0_put_38 ?_
          refine sn_iload_n hO 3 rfl dX0_put_41 ?_
          refine sn_zald hO atX_9 rfl dX0_put_42 ?_
          refine sn_if_eq hO 55 (by decide) dX0_put_43 ?_ ?_
          · exact hk12
          · refine sn_aload_n hO 0 rfl dX0_put_46 ?_
            refine sn_bipush hO kb_m3 dX0_put_47 ?_
            refine sn_callV hO (c2 := 0) (s2 := 0) (rm := rmX0_refuse) [.int (-3)] cvX0_122 (fun _ => sn_Rv_K atX_0) (fun h => ctX0_refuse h) ⟨Nat.le_of_ble_eq_true rfl, Nat.le_of_ble_eq_true rfl⟩ rfl rfl (Nat.le_of_ble_eq_true rfl) ⟨Nat.le_of_ble_eq_true rfl, Nat.le_of_ble_eq_true rfl, rfl, rfl⟩ dX0_put_49 (sn_bI (fun r15 S16 => ?_)) sn_x0
            refine sn_goto hO 73 (by decide) dX0_put_52 ?_
            subst hQq
            exact sn_iret hO rfl dX0_put_73
    · refine sn_aload_n hO 0 rfl dX0_put_22 ?_
      refine sn_bipush hO kb_m2 dX0_put_23 ?_
      refine sn_callV hO (c2 := 0) (s2 := 0) (rm := rmX0_refuse) [.int (-2)] cvX0_122 (fun _ => sn_Rv_K atX_0) (fun h => ctX0_refuse h) ⟨Nat.le_of_ble_eq_true rfl, Nat.le_of_ble_eq_true rfl⟩ rfl rfl (Nat.le_of_ble_eq_true rfl) ⟨Nat.le_of_ble_eq_true rfl, Nat.le_of_ble_eq_true rfl, rfl, rfl⟩ dX0_put_25 (sn_bI (fun r17 S18 => ?_)) sn_x0
      subst hQq
      exact sn_iret hO rfl dX0_put_28
  · refine sn_aload_n hO 0 rfl dX0_put_8 ?_
    refine sn_iconst hO kc_m1 dX0_put_9 ?_
    refine sn_callV hO (c2 := 0) (s2 := 0) (rm := rmX0_refuse) [.int (-1)] cvX0_122 (fun _ => sn_Rv_K atX_0) (fun h => ctX0_refuse h) ⟨Nat.le_of_ble_eq_true rfl, Nat.le_of_ble_eq_true rfl⟩ rfl rfl (Nat.le_of_ble_eq_true rfl) ⟨Nat.le_of_ble_eq_true rfl, Nat.le_of_ble_eq_true rfl, rfl, rfl⟩ dX0_put_10 (sn_bI (fun r19 S20 => ?_)) sn_x0
    subst hQq
    exact sn_iret hO rfl dX0_put_13
theorem ctX0_put {w : sn_W} {p1 : Int32} {p2 : Int32} {p3 : Int32} {S : sn_S} {Q : Int32 → sn_S → Prop} (h : wpX0_put w p1 p2 p3 S Q) : sn_Ct LoX w yX0_put (ws_ yX0_put cX0_put 4 (some .int)) rmX0_put [.ref (w.2.2.1 0), .int p1, .int p2, .int p3] S (sn_qI Q) sn_noE := sn_Ct_of (XX_O w) (by decide) (Nat.le_of_ble_eq_true rfl) RX0 rfl (fun C hO => wkX0_put hO p1 p2 p3 S Q h)
def rmX0_fact : Room := { frames := 2, cells := 0, slots := 0, locals := 43 }
/-- SnailPost.fact(II)I -/
def wpX0_fact (w : sn_W) (p1 : Int32) (p2 : Int32) (S : sn_S) (Q : Int32 → Prop) : Prop :=
  wpX0_isSnail w p1 S (fun (r10 : Int32) => ((r10 = 0 → Q (-1)) ∧ (¬ r10 = 0 → wpX0_in w p2 0 5 (fun (r11 : Int32) => ((r11 = 0 → Q (-1)) ∧ (¬ r11 = 0 → wpX0_of0 w p1 p2 S (fun (r12 : Int32) => Q r12)))))))
theorem wkX0_fact {w : sn_W} {C : sn_C} (hO : sn_Ok LoX w C RX0 cX0_fact 3 (some .int) [] "fact") (p1 : Int32) (p2 : Int32) (S : sn_S) (Q : Int32 → Prop) : wpX0_fact w p1 p2 S Q → sn_G LoX w rmX0_fact (sn_qI (fun r S1 => S1 = S ∧ Q r)) sn_noE C 0 0 0 [(0, .ref (w.2.2.1 0)), (1, .int p1), (2, .int p2)] [] S := by
  unfold wpX0_fact
  generalize hQq : (sn_qI (fun r S1 => S1 = S ∧ Q r)) = Qq
  refine sn_aload_n hO 0 rfl dX0_fact_0 ?_
  refine sn_iload_n hO 1 rfl dX0_fact_1 ?_
  refine sn_callV hO (c2 := 0) (s2 := 0) (rm := rmX0_isSnail) [.int p1] cvX0_158 (fun _ => sn_Rv_K atX_0) (fun h => ctX0_isSnail h) ⟨Nat.le_of_ble_eq_true rfl, Nat.le_of_ble_eq_true rfl⟩ rfl rfl (Nat.le_of_ble_eq_true rfl) ⟨Nat.le_of_ble_eq_true rfl, Nat.le_of_ble_eq_true rfl, rfl, rfl⟩ dX0_fact_2 (sn_bIp (fun r10 => ?_)) sn_x0
  refine sn_if_eq hO 26 (by decide) dX0_fact_5 ?_ ?_
  · refine sn_iconst hO kc_m1 dX0_fact_26 ?_
    subst hQq
    exact fun h => sn_iret hO rfl dX0_fact_27 ⟨rfl, h⟩
  · refine sn_iload_n hO 2 rfl dX0_fact_8 ?_
    refine sn_iconst hO kc_0 dX0_fact_9 ?_
    refine sn_iconst hO kc_5 dX0_fact_10 ?_
    refine sn_callS hO (c2 := 0) (s2 := 0) (rm := rmX0_in) [.int p2, .int 0, .int 5] csX0_112 (fun h => ctX0_in h) ⟨Nat.le_of_ble_eq_true rfl, Nat.le_of_ble_eq_true rfl⟩ rfl rfl (Nat.le_of_ble_eq_true rfl) ⟨Nat.le_of_ble_eq_true rfl, Nat.le_of_ble_eq_true rfl, rfl, rfl⟩ dX0_fact_11 (sn_bIp (fun r11 => ?_)) sn_x0
    refine sn_if_eq hO 26 (by decide) dX0_fact_14 ?_ ?_
    · refine sn_iconst hO kc_m1 dX0_fact_26 ?_
      subst hQq
      exact fun h => sn_iret hO rfl dX0_fact_27 ⟨rfl, h⟩
    · refine sn_aload_n hO 0 rfl dX0_fact_17 ?_
      refine sn_iload_n hO 1 rfl dX0_fact_18 ?_
      refine sn_iload_n hO 2 rfl dX0_fact_19 ?_
      refine sn_callV hO (c2 := 0) (s2 := 0) (rm := rmX0_of0) [.int p1, .int p2] cvX0_143 (fun _ => sn_Rv_K atX_0) (fun h => ctX0_of0 h) ⟨Nat.le_of_ble_eq_true rfl, Nat.le_of_ble_eq_true rfl⟩ rfl rfl (Nat.le_of_ble_eq_true rfl) ⟨Nat.le_of_ble_eq_true rfl, Nat.le_of_ble_eq_true rfl, rfl, rfl⟩ dX0_fact_20 (sn_bIp (fun r12 => ?_)) sn_x0
      refine sn_goto hO 27 (by decide) dX0_fact_23 ?_
      subst hQq
      exact fun h => sn_iret hO rfl dX0_fact_27 ⟨rfl, h⟩
theorem ctX0_fact {w : sn_W} {p1 : Int32} {p2 : Int32} {S : sn_S} {Q : Int32 → Prop} (h : wpX0_fact w p1 p2 S Q) : sn_Ct LoX w yX0_fact (ws_ yX0_fact cX0_fact 3 (some .int)) rmX0_fact [.ref (w.2.2.1 0), .int p1, .int p2] S (sn_qI (fun r S1 => S1 = S ∧ Q r)) sn_noE := sn_Ct_of (XX_O w) (by decide) (Nat.le_of_ble_eq_true rfl) RX0 rfl (fun C hO => wkX0_fact hO p1 p2 S Q h)
def rmX0_spot : Room := { frames := 2, cells := 0, slots := 0, locals := 42 }
/-- SnailPost.spot(I)I -/
def wpX0_spot (w : sn_W) (p1 : Int32) (S : sn_S) (Q : Int32 → sn_S → Prop) : Prop :=
  wpX0_isCell w p1 (fun (r10 : Int32) => ((¬ r10 = 0 → ((¬ (S.1 2 9) = 4 → (vp_in (S.1 2 9) 4 ∧ sn_lt (sn_pI S 5 ((S.1 2 9)).toNatClampNeg p1) (fun S11 => sn_lt (sn_pI S11 2 9 ((S11.1 2 9) + 1)) (fun S12 => wpX0_told w ((S12.1 2 9) - 1) S12 (fun (r13 : Int32) (S14 : sn_S) => Q r13 S14))))) ∧ ((S.1 2 9) = 4 → wpX0_refuse w (-5) S (fun (r15 : Int32) (S16 : sn_S) => Q r15 S16)))) ∧ (r10 = 0 → wpX0_refuse w (-1) S (fun (r17 : Int32) (S18 : sn_S) => Q r17 S18))))
theorem wkX0_spot {w : sn_W} {C : sn_C} (hO : sn_Ok LoX w C RX0 cX0_spot 2 (some .int) [] "spot") (p1 : Int32) (S : sn_S) (Q : Int32 → sn_S → Prop) : wpX0_spot w p1 S Q → sn_G LoX w rmX0_spot (sn_qI Q) sn_noE C 0 0 0 [(0, .ref (w.2.2.1 0)), (1, .int p1)] [] S := by
  unfold wpX0_spot
  generalize hQq : (sn_qI Q) = Qq
  refine sn_iload_n hO 1 rfl dX0_spot_0 ?_
  refine sn_callS hO (c2 := 0) (s2 := 0) (rm := rmX0_isCell) [.int p1] csX0_132 (fun h => ctX0_isCell h) ⟨Nat.le_of_ble_eq_true rfl, Nat.le_of_ble_eq_true rfl⟩ rfl rfl (Nat.le_of_ble_eq_true rfl) ⟨Nat.le_of_ble_eq_true rfl, Nat.le_of_ble_eq_true rfl, rfl, rfl⟩ dX0_spot_1 (sn_bIp (fun r10 => ?_)) sn_x0
  refine sn_if_ne hO 13 (by decide) dX0_spot_4 ?_ ?_
  · refine sn_aload_n hO 0 rfl dX0_spot_13 ?_
    refine sn_getF hO fX0_16 atX_0 dX0_spot_14 ?_
    refine sn_getIN hO fX0_161 atX_2 dX0_spot_17 ?_
    refine sn_iconst hO kc_4 dX0_spot_20 ?_
    refine sn_icmp_ne hO 31 (by decide) dX0_spot_21 ?_ ?_
    · refine sn_aload_n hO 0 rfl dX0_spot_31 ?_
      refine sn_getF hO fX0_16 atX_0 dX0_spot_32 ?_
      refine sn_getFN hO fX0_164 atX_2 dX0_spot_35 ?_
      refine sn_aload_n hO 0 rfl dX0_spot_38 ?_
      refine sn_getF hO fX0_16 atX_0 dX0_spot_39 ?_
      refine sn_getIN hO fX0_161 atX_2 dX0_spot_42 ?_
      refine sn_iload_n hO 1 rfl dX0_spot_45 ?_
      refine sn_iast hO atX_5 rfl dX0_spot_46 ?_
      refine sn_nmS (fun S11 => ?_)
      refine sn_aload_n hO 0 rfl dX0_spot_47 ?_
      refine sn_getF hO fX0_16 atX_0 dX0_spot_48 ?_
      refine sn_dup hO rfl dX0_spot_51 ?_
      refine sn_getIN hO fX0_161 atX_2 dX0_spot_52 ?_
      refine sn_iconst hO kc_1 dX0_spot_55 ?_
      refine sn_iadd hO dX0_spot_56 ?_
      refine sn_putIN hO fX0_161 atX_2 rfl rfl dX0_spot_57 ?_
      refine sn_nmS (fun S12 => ?_)
      refine sn_aload_n hO 0 rfl dX0_spot_60 ?_
      refine sn_aload_n hO 0 rfl dX0_spot_61 ?_
      refine sn_getF hO fX0_16 atX_0 dX0_spot_62 ?_
      refine sn_getIN hO fX0_161 atX_2 dX0_spot_65 ?_
      refine sn_iconst hO kc_1 dX0_spot_68 ?_
      refine sn_isub hO dX0_spot_69 ?_
      refine sn_callV hO (c2 := 0) (s2 := 0) (rm := rmX0_told) [.int ((S12.1 2 9) - 1)] cvX0_129 (fun _ => sn_Rv_K atX_0) (fun h => ctX0_told h) ⟨Nat.le_of_ble_eq_true rfl, Nat.le_of_ble_eq_true rfl⟩ rfl rfl (Nat.le_of_ble_eq_true rfl) ⟨Nat.le_of_ble_eq_true rfl, Nat.le_of_ble_eq_true rfl, rfl, rfl⟩ dX0_spot_70 (sn_bI (fun r13 S14 => ?_)) sn_x0
      subst hQq
      exact sn_iret hO rfl dX0_spot_73
    · refine sn_aload_n hO 0 rfl dX0_spot_24 ?_
      refine sn_bipush hO kb_m5 dX0_spot_25 ?_
      refine sn_callV hO (c2 := 0) (s2 := 0) (rm := rmX0_refuse) [.int (-5)] cvX0_122 (fun _ => sn_Rv_K atX_0) (fun h => ctX0_refuse h) ⟨Nat.le_of_ble_eq_true rfl, Nat.le_of_ble_eq_true rfl⟩ rfl rfl (Nat.le_of_ble_eq_true rfl) ⟨Nat.le_of_ble_eq_true rfl, Nat.le_of_ble_eq_true rfl, rfl, rfl⟩ dX0_spot_27 (sn_bI (fun r15 S16 => ?_)) sn_x0
      subst hQq
      exact sn_iret hO rfl dX0_spot_30
  · refine sn_aload_n hO 0 rfl dX0_spot_7 ?_
    refine sn_iconst hO kc_m1 dX0_spot_8 ?_
    refine sn_callV hO (c2 := 0) (s2 := 0) (rm := rmX0_refuse) [.int (-1)] cvX0_122 (fun _ => sn_Rv_K atX_0) (fun h => ctX0_refuse h) ⟨Nat.le_of_ble_eq_true rfl, Nat.le_of_ble_eq_true rfl⟩ rfl rfl (Nat.le_of_ble_eq_true rfl) ⟨Nat.le_of_ble_eq_true rfl, Nat.le_of_ble_eq_true rfl, rfl, rfl⟩ dX0_spot_9 (sn_bI (fun r17 S18 => ?_)) sn_x0
    subst hQq
    exact sn_iret hO rfl dX0_spot_12
theorem ctX0_spot {w : sn_W} {p1 : Int32} {S : sn_S} {Q : Int32 → sn_S → Prop} (h : wpX0_spot w p1 S Q) : sn_Ct LoX w yX0_spot (ws_ yX0_spot cX0_spot 2 (some .int)) rmX0_spot [.ref (w.2.2.1 0), .int p1] S (sn_qI Q) sn_noE := sn_Ct_of (XX_O w) (by decide) (Nat.le_of_ble_eq_true rfl) RX0 rfl (fun C hO => wkX0_spot hO p1 S Q h)
def rmX0_isHour : Room := { frames := 1, cells := 0, slots := 0, locals := 22 }
/-- SnailPost.isHour(I)Z -/
def wpX0_isHour (w : sn_W) (p1 : Int32) (Q : Int32 → Prop) : Prop :=
  wpX0_in w p1 0 4 (fun (r10 : Int32) => (narrow .boolean (.int r10) = .int r10 ∧ Q r10))
theorem wkX0_isHour {w : sn_W} {C : sn_C} (hO : sn_Ok LoX w C RX0 cX0_isHour 1 (some .boolean) [] "isHour") (p1 : Int32) (S : sn_S) (Q : Int32 → Prop) : wpX0_isHour w p1 Q → sn_G LoX w rmX0_isHour (sn_qI (fun r S1 => S1 = S ∧ Q r)) sn_noE C 0 0 0 [(0, .int p1)] [] S := by
  unfold wpX0_isHour
  generalize hQq : (sn_qI (fun r S1 => S1 = S ∧ Q r)) = Qq
  refine sn_iload_n hO 0 rfl dX0_isHour_0 ?_
  refine sn_iconst hO kc_0 dX0_isHour_1 ?_
  refine sn_iconst hO kc_4 dX0_isHour_2 ?_
  refine sn_callS hO (c2 := 0) (s2 := 0) (rm := rmX0_in) [.int p1, .int 0, .int 4] csX0_112 (fun h => ctX0_in h) ⟨Nat.le_of_ble_eq_true rfl, Nat.le_of_ble_eq_true rfl⟩ rfl rfl (Nat.le_of_ble_eq_true rfl) ⟨Nat.le_of_ble_eq_true rfl, Nat.le_of_ble_eq_true rfl, rfl, rfl⟩ dX0_isHour_3 (sn_bIp (fun r10 => ?_)) sn_x0
  subst hQq
  exact fun h => sn_zretP hO rfl dX0_isHour_6 ⟨h.1, rfl, h.2⟩
theorem ctX0_isHour {w : sn_W} {p1 : Int32} {S : sn_S} {Q : Int32 → Prop} (h : wpX0_isHour w p1 Q) : sn_Ct LoX w yX0_isHour (ws_ yX0_isHour cX0_isHour 1 (some .boolean)) rmX0_isHour [.int p1] S (sn_qI (fun r S1 => S1 = S ∧ Q r)) sn_noE := sn_Ct_of (XX_O w) (by decide) (Nat.le_of_ble_eq_true rfl) RX0 rfl (fun C hO => wkX0_isHour hO p1 S Q h)
def rmX0_plan : Room := { frames := 3, cells := 0, slots := 0, locals := 66 }
/-- SnailPost.plan(II)I -/
def wpX0_plan (w : sn_W) (p1 : Int32) (p2 : Int32) (S : sn_S) (Q : Int32 → sn_S → Prop) : Prop :=
  wpX0_isHour w p1 (fun (r10 : Int32) => ((¬ r10 = 0 → wpX0_in w p2 (-1) ((S.1 2 9) - 1) (fun (r11 : Int32) => ((r11 = 0 → wpX0_refuse w (-2) S (fun (r12 : Int32) (S13 : sn_S) => Q r12 S13)) ∧ (¬ r11 = 0 → wpX0_replaces w 6 5 p1 p2 S (fun (r14 : Int32) (S15 : sn_S) => Q r14 S15))))) ∧ (r10 = 0 → wpX0_refuse w (-1) S (fun (r16 : Int32) (S17 : sn_S) => Q r16 S17))))
theorem wkX0_plan {w : sn_W} {C : sn_C} (hO : sn_Ok LoX w C RX0 cX0_plan 3 (some .int) [] "plan") (p1 : Int32) (p2 : Int32) (S : sn_S) (Q : Int32 → sn_S → Prop) : wpX0_plan w p1 p2 S Q → sn_G LoX w rmX0_plan (sn_qI Q) sn_noE C 0 0 0 [(0, .ref (w.2.2.1 0)), (1, .int p1), (2, .int p2)] [] S := by
  unfold wpX0_plan
  generalize hQq : (sn_qI Q) = Qq
  refine sn_iload_n hO 1 rfl dX0_plan_0 ?_
  refine sn_callS hO (c2 := 0) (s2 := 0) (rm := rmX0_isHour) [.int p1] csX0_167 (fun h => ctX0_isHour h) ⟨Nat.le_of_ble_eq_true rfl, Nat.le_of_ble_eq_true rfl⟩ rfl rfl (Nat.le_of_ble_eq_true rfl) ⟨Nat.le_of_ble_eq_true rfl, Nat.le_of_ble_eq_true rfl, rfl, rfl⟩ dX0_plan_1 (sn_bIp (fun r10 => ?_)) sn_x0
  refine sn_if_ne hO 13 (by decide) dX0_plan_4 ?_ ?_
  · refine sn_iload_n hO 2 rfl dX0_plan_13 ?_
    refine sn_iconst hO kc_m1 dX0_plan_14 ?_
    refine sn_aload_n hO 0 rfl dX0_plan_15 ?_
    refine sn_getF hO fX0_16 atX_0 dX0_plan_16 ?_
    refine sn_getIN hO fX0_161 atX_2 dX0_plan_19 ?_
    refine sn_iconst hO kc_1 dX0_plan_22 ?_
    refine sn_isub hO dX0_plan_23 ?_
    refine sn_callS hO (c2 := 0) (s2 := 0) (rm := rmX0_in) [.int p2, .int (-1), .int ((S.1 2 9) - 1)] csX0_112 (fun h => ctX0_in h) ⟨Nat.le_of_ble_eq_true rfl, Nat.le_of_ble_eq_true rfl⟩ rfl rfl (Nat.le_of_ble_eq_true rfl) ⟨Nat.le_of_ble_eq_true rfl, Nat.le_of_ble_eq_true rfl, rfl, rfl⟩ dX0_plan_24 (sn_bIp (fun r11 => ?_)) sn_x0
    refine sn_if_eq hO 46 (by decide) dX0_plan_27 ?_ ?_
    · refine sn_aload_n hO 0 rfl dX0_plan_46 ?_
      refine sn_bipush hO kb_m2 dX0_plan_47 ?_
      refine sn_callV hO (c2 := 0) (s2 := 0) (rm := rmX0_refuse) [.int (-2)] cvX0_122 (fun _ => sn_Rv_K atX_0) (fun h => ctX0_refuse h) ⟨Nat.le_of_ble_eq_true rfl, Nat.le_of_ble_eq_true rfl⟩ rfl rfl (Nat.le_of_ble_eq_true rfl) ⟨Nat.le_of_ble_eq_true rfl, Nat.le_of_ble_eq_true rfl, rfl, rfl⟩ dX0_plan_49 (sn_bI (fun r12 S13 => ?_)) sn_x0
      subst hQq
      exact sn_iret hO rfl dX0_plan_52
    · refine sn_aload_n hO 0 rfl dX0_plan_30 ?_
      refine sn_aload_n hO 0 rfl dX0_plan_31 ?_
      refine sn_getF hO fX0_16 atX_0 dX0_plan_32 ?_
      refine sn_getFN hO fX0_170 atX_2 dX0_plan_35 ?_
      refine sn_iload_n hO 1 rfl dX0_plan_38 ?_
      refine sn_iload_n hO 2 rfl dX0_plan_39 ?_
      refine sn_callV hO (c2 := 0) (s2 := 0) (rm := rmX0_replaces) [.ref (w.2.2.1 6), .int p1, .int p2] cvX0_139 (fun _ => sn_Rv_K atX_0) (fun h => ctX0_replaces atX_6 h) ⟨Nat.le_of_ble_eq_true rfl, Nat.le_of_ble_eq_true rfl⟩ rfl rfl (Nat.le_of_ble_eq_true rfl) ⟨Nat.le_of_ble_eq_true rfl, Nat.le_of_ble_eq_true rfl, rfl, rfl⟩ dX0_plan_40 (sn_bI (fun r14 S15 => ?_)) sn_x0
      refine sn_goto hO 52 (by decide) dX0_plan_43 ?_
      subst hQq
      exact sn_iret hO rfl dX0_plan_52
  · refine sn_aload_n hO 0 rfl dX0_plan_7 ?_
    refine sn_iconst hO kc_m1 dX0_plan_8 ?_
    refine sn_callV hO (c2 := 0) (s2 := 0) (rm := rmX0_refuse) [.int (-1)] cvX0_122 (fun _ => sn_Rv_K atX_0) (fun h => ctX0_refuse h) ⟨Nat.le_of_ble_eq_true rfl, Nat.le_of_ble_eq_true rfl⟩ rfl rfl (Nat.le_of_ble_eq_true rfl) ⟨Nat.le_of_ble_eq_true rfl, Nat.le_of_ble_eq_true rfl, rfl, rfl⟩ dX0_plan_9 (sn_bI (fun r16 S17 => ?_)) sn_x0
    subst hQq
    exact sn_iret hO rfl dX0_plan_12
theorem ctX0_plan {w : sn_W} {p1 : Int32} {p2 : Int32} {S : sn_S} {Q : Int32 → sn_S → Prop} (h : wpX0_plan w p1 p2 S Q) : sn_Ct LoX w yX0_plan (ws_ yX0_plan cX0_plan 3 (some .int)) rmX0_plan [.ref (w.2.2.1 0), .int p1, .int p2] S (sn_qI Q) sn_noE := sn_Ct_of (XX_O w) (by decide) (Nat.le_of_ble_eq_true rfl) RX0 rfl (fun C hO => wkX0_plan hO p1 p2 S Q h)
def rmX0_terms : Room := { frames := 3, cells := 0, slots := 0, locals := 66 }
/-- SnailPost.terms(II)I -/
def wpX0_terms (w : sn_W) (p1 : Int32) (p2 : Int32) (S : sn_S) (Q : Int32 → sn_S → Prop) : Prop :=
  wpX0_in w p1 0 1 (fun (r10 : Int32) => sn_jn (κ := Prop) (wpX0_refuse w (-1) S (fun (r12 : Int32) (S13 : sn_S) => Q r12 S13)) (fun (k11 : Prop) => ((r10 = 0 → k11) ∧ (¬ r10 = 0 → sn_jn (fun (v14 : Int32) => wpX0_in w p2 1 v14 (fun (r16 : Int32) => ((r16 = 0 → k11) ∧ (¬ r16 = 0 → wpX0_replaces w 7 2 p1 p2 S (fun (r17 : Int32) (S18 : sn_S) => Q r17 S18))))) (fun (k15 : Int32 → Prop) => ((¬ p1 = 0 → k15 20) ∧ (p1 = 0 → k15 6)))))))
theorem wkX0_terms {w : sn_W} {C : sn_C} (hO : sn_Ok LoX w C RX0 cX0_terms 3 (some .int) [] "terms") (p1 : Int32) (p2 : Int32) (S : sn_S) (Q : Int32 → sn_S → Prop) : wpX0_terms w p1 p2 S Q → sn_G LoX w rmX0_terms (sn_qI Q) sn_noE C 0 0 0 [(0, .ref (w.2.2.1 0)), (1, .int p1), (2, .int p2)] [] S := by
  unfold wpX0_terms
  generalize hQq : (sn_qI Q) = Qq
  refine sn_iload_n hO 1 rfl dX0_terms_0 ?_
  refine sn_iconst hO kc_0 dX0_terms_1 ?_
  refine sn_iconst hO kc_1 dX0_terms_2 ?_
  refine sn_callS hO (c2 := 0) (s2 := 0) (rm := rmX0_in) [.int p1, .int 0, .int 1] csX0_112 (fun h => ctX0_in h) ⟨Nat.le_of_ble_eq_true rfl, Nat.le_of_ble_eq_true rfl⟩ rfl rfl (Nat.le_of_ble_eq_true rfl) ⟨Nat.le_of_ble_eq_true rfl, Nat.le_of_ble_eq_true rfl, rfl, rfl⟩ dX0_terms_3 (sn_bIp (fun r10 => ?_)) sn_x0
  refine sn_jn_walk (fun (k : Prop) => k → sn_G LoX w rmX0_terms Qq sn_noE C 0 0 44 [(0, .ref (w.2.2.1 0))] [] S) ?_ ?_
  · refine sn_aload_n hO 0 rfl dX0_terms_44 ?_
    refine sn_iconst hO kc_m1 dX0_terms_45 ?_
    refine sn_callV hO (c2 := 0) (s2 := 0) (rm := rmX0_refuse) [.int (-1)] cvX0_122 (fun _ => sn_Rv_K atX_0) (fun h => ctX0_refuse h) ⟨Nat.le_of_ble_eq_true rfl, Nat.le_of_ble_eq_true rfl⟩ rfl rfl (Nat.le_of_ble_eq_true rfl) ⟨Nat.le_of_ble_eq_true rfl, Nat.le_of_ble_eq_true rfl, rfl, rfl⟩ dX0_terms_46 (sn_bI (fun r12 S13 => ?_)) sn_x0
    subst hQq
    exact sn_iret hO rfl dX0_terms_49
  · intro k11 hk11
    refine sn_if_eq hO 44 (by decide) dX0_terms_6 ?_ ?_
    · refine sn_sub [0] rfl ?_
      exact hk11
    · refine sn_iload_n hO 2 rfl dX0_terms_9 ?_
      refine sn_iconst hO kc_1 dX0_terms_10 ?_
      refine sn_iload_n hO 1 rfl dX0_terms_11 ?_
      refine sn_jn_walk (fun (k : Int32 → Prop) => ∀ (v14 : Int32), k v14 → sn_G LoX w rmX0_terms Qq sn_noE C 0 0 22 [(0, .ref (w.2.2.1 0)), (1, .int p1), (2, .int p2)] [.int v14, .int 1, .int p2] S) ?_ ?_
      · intro v14
        refine sn_callS hO (c2 := 0) (s2 := 0) (rm := rmX0_in) [.int p2, .int 1, .int v14] csX0_112 (fun h => ctX0_in h) ⟨Nat.le_of_ble_eq_true rfl, Nat.le_of_ble_eq_true rfl⟩ rfl rfl (Nat.le_of_ble_eq_true rfl) ⟨Nat.le_of_ble_eq_true rfl, Nat.le_of_ble_eq_true rfl, rfl, rfl⟩ dX0_terms_22 (sn_bIp (fun r16 => ?_)) sn_x0
        refine sn_if_eq hO 44 (by decide) dX0_terms_25 ?_ ?_
        · refine sn_sub [0] rfl ?_
          exact hk11
        · refine sn_aload_n hO 0 rfl dX0_terms_28 ?_
          refine sn_aload_n hO 0 rfl dX0_terms_29 ?_
          refine sn_getF hO fX0_16 atX_0 dX0_terms_30 ?_
          refine sn_getFN hO fX0_173 atX_2 dX0_terms_33 ?_
          refine sn_iload_n hO 1 rfl dX0_terms_36 ?_
          refine sn_iload_n hO 2 rfl dX0_terms_37 ?_
          refine sn_callV hO (c2 := 0) (s2 := 0) (rm := rmX0_replaces) [.ref (w.2.2.1 7), .int p1, .int p2] cvX0_139 (fun _ => sn_Rv_K atX_0) (fun h => ctX0_replaces atX_7 h) ⟨Nat.le_of_ble_eq_true rfl, Nat.le_of_ble_eq_true rfl⟩ rfl rfl (Nat.le_of_ble_eq_true rfl) ⟨Nat.le_of_ble_eq_true rfl, Nat.le_of_ble_eq_true rfl, rfl, rfl⟩ dX0_terms_38 (sn_bI (fun r17 S18 => ?_)) sn_x0
          refine sn_goto hO 49 (by decide) dX0_terms_41 ?_
          subst hQq
          exact sn_iret hO rfl dX0_terms_49
      · intro k15 hk15
        refine sn_if_ne hO 20 (by decide) dX0_terms_12 ?_ ?_
        · refine sn_bipush hO kb_20 dX0_terms_20 ?_
          exact hk15 _
        · refine sn_bipush hO kb_6 dX0_terms_15 ?_
          refine sn_goto hO 22 (by decide) dX0_terms_17 ?_
          exact hk15 _
theorem ctX0_terms {w : sn_W} {p1 : Int32} {p2 : Int32} {S : sn_S} {Q : Int32 → sn_S → Prop} (h : wpX0_terms w p1 p2 S Q) : sn_Ct LoX w yX0_terms (ws_ yX0_terms cX0_terms 3 (some .int)) rmX0_terms [.ref (w.2.2.1 0), .int p1, .int p2] S (sn_qI Q) sn_noE := sn_Ct_of (XX_O w) (by decide) (Nat.le_of_ble_eq_true rfl) RX0 rfl (fun C hO => wkX0_terms hO p1 p2 S Q h)
def rmX0_four : Room := { frames := 0, cells := 0, slots := 0, locals := 0 }
/-- SnailPost.four(I)V -/
def wpX0_four (w : sn_W) (p1 : Int32) (S : sn_S) (Q : sn_S → Prop) : Prop :=
  sn_lp2 (fun (rc12 : Int32 → sn_S → Prop) (i10 : Int32) (S11 : sn_S) => ((i10 < 0 → Q S11) ∧ (¬ i10 < 0 → (vp_in (S11.1 0 5) 400 ∧ sn_lt (sn_pI S11 11 ((S11.1 0 5)).toNatClampNeg (vp_nar .byte (Int8.toInt32 (Int32.toInt8 (p1 >>> (i10 &&& 31)))))) (fun S13 => sn_lt (sn_pI S13 0 5 ((S13.1 0 5) + 1)) (fun S14 => rc12 (i10 + (-8)) S14)))))) 24 S
theorem wkX0_four {w : sn_W} {C : sn_C} (hO : sn_Ok LoX w C RX0 cX0_four 3 none [] "four") (p1 : Int32) (S : sn_S) (Q : sn_S → Prop) : wpX0_four w p1 S Q → sn_G LoX w rmX0_four (sn_qV Q) sn_noE C 0 0 0 [(0, .ref (w.2.2.1 0)), (1, .int p1)] [] S := by
  unfold wpX0_four
  generalize hQq : (sn_qV Q) = Qq
  refine sn_bipush hO kb_24 dX0_four_0 ?_
  refine sn_istore_n hO (lv' := [(2, .int 24), (0, .ref (w.2.2.1 0)), (1, .int p1)]) (by decide) rfl dX0_four_2 ?_
  refine sn_sub [1, 2, 0] rfl ?_
  refine sn_lp2_walk (Gd := fun (i10 : Int32) (S11 : sn_S) => sn_G LoX w rmX0_four Qq sn_noE C 0 0 3 [(0, .ref (w.2.2.1 0)), (1, .int p1), (2, .int i10)] [] S11) ?_ _ _
  intro rc12 hrc12 i10 S11
  refine sn_iload_n hO 2 rfl dX0_four_3 ?_
  refine sn_if_lt hO 36 (by decide) dX0_four_4 ?_ ?_
  · subst hQq
    exact sn_vret hO rfl dX0_four_36
  · refine sn_aload_n hO 0 rfl dX0_four_7 ?_
    refine sn_getF hO fX0_24 atX_0 dX0_four_8 ?_
    refine sn_aload_n hO 0 rfl dX0_four_11 ?_
    refine sn_getI hO fX0_176 atX_0 dX0_four_12 ?_
    refine sn_iload_n hO 1 rfl dX0_four_15 ?_
    refine sn_iload_n hO 2 rfl dX0_four_16 ?_
    refine sn_ishr hO dX0_four_17 ?_
    refine sn_i2b hO dX0_four_18 ?_
    refine sn_bast hO atX_11 rfl dX0_four_19 ?_
    refine sn_nmS (fun S13 => ?_)
    refine sn_aload_n hO 0 rfl dX0_four_20 ?_
    refine sn_dup hO rfl dX0_four_21 ?_
    refine sn_getI hO fX0_176 atX_0 dX0_four_22 ?_
    refine sn_iconst hO kc_1 dX0_four_25 ?_
    refine sn_iadd hO dX0_four_26 ?_
    refine sn_putI hO fX0_176 atX_0 rfl rfl dX0_four_27 ?_
    refine sn_nmS (fun S14 => ?_)
    refine sn_iinc hO (lv' := [(2, .int (i10 + (-8))), (0, .ref (w.2.2.1 0)), (1, .int p1)]) 2 rfl ki_m8 (by decide) rfl dX0_four_30 ?_
    refine sn_goto hO 3 (by decide) dX0_four_33 ?_
    refine sn_sub [1, 2, 0] rfl ?_
    exact hrc12 _ _
theorem ctX0_four {w : sn_W} {p1 : Int32} {S : sn_S} {Q : sn_S → Prop} (h : wpX0_four w p1 S Q) : sn_Ct LoX w yX0_four (ws_ yX0_four cX0_four 3 none) rmX0_four [.ref (w.2.2.1 0), .int p1] S (sn_qV Q) sn_noE := sn_Ct_of (XX_O w) (by decide) (Nat.le_of_ble_eq_true rfl) RX0 rfl (fun C hO => wkX0_four hO p1 S Q h)
def rmX0_feed : Room := { frames := 1, cells := 0, slots := 0, locals := 22 }
/-- SnailPost.feed(IIIII)I -/
def wpX0_feed (w : sn_W) (p1 : Int32) (p2 : Int32) (p3 : Int32) (p4 : Int32) (p5 : Int32) (S : sn_S) (Q : Int32 → sn_S → Prop) : Prop :=
  ((((S.1 0 5) + 20) ≤ 400 → wpX0_four w p1 S (fun (S10 : sn_S) => wpX0_four w p2 S10 (fun (S11 : sn_S) => wpX0_four w p3 S11 (fun (S12 : sn_S) => wpX0_four w p4 S12 (fun (S13 : sn_S) => wpX0_four w p5 S13 (fun (S14 : sn_S) => Q (S14.1 0 5) S14)))))) ∧ (¬ ((S.1 0 5) + 20) ≤ 400 → Q (-1) S))
theorem wkX0_feed {w : sn_W} {C : sn_C} (hO : sn_Ok LoX w C RX0 cX0_feed 6 (some .int) [] "feed") (p1 : Int32) (p2 : Int32) (p3 : Int32) (p4 : Int32) (p5 : Int32) (S : sn_S) (Q : Int32 → sn_S → Prop) : wpX0_feed w p1 p2 p3 p4 p5 S Q → sn_G LoX w rmX0_feed (sn_qI Q) sn_noE C 0 0 0 [(0, .ref (w.2.2.1 0)), (1, .int p1), (2, .int p2), (3, .int p3), (4, .int p4), (5, .int p5)] [] S := by
  unfold wpX0_feed
  generalize hQq : (sn_qI Q) = Qq
  refine sn_aload_n hO 0 rfl dX0_feed_0 ?_
  refine sn_getI hO fX0_176 atX_0 dX0_feed_1 ?_
  refine sn_bipush hO kb_20 dX0_feed_4 ?_
  refine sn_iadd hO dX0_feed_6 ?_
  refine sn_sipush hO ks_400 dX0_feed_7 ?_
  refine sn_icmp_le hO 15 (by decide) dX0_feed_10 ?_ ?_
  · refine sn_aload_n hO 0 rfl dX0_feed_15 ?_
    refine sn_iload_n hO 1 rfl dX0_feed_16 ?_
    refine sn_callV hO (c2 := 0) (s2 := 0) (rm := rmX0_four) [.int p1] cvX0_179 (fun _ => sn_Rv_K atX_0) (fun h => ctX0_four h) ⟨Nat.le_of_ble_eq_true rfl, Nat.le_of_ble_eq_true rfl⟩ rfl rfl (Nat.le_of_ble_eq_true rfl) ⟨Nat.le_of_ble_eq_true rfl, Nat.le_of_ble_eq_true rfl, rfl, rfl⟩ dX0_feed_17 (sn_bV (fun S10 => ?_)) sn_x0
    refine sn_aload_n hO 0 rfl dX0_feed_20 ?_
    refine sn_iload_n hO 2 rfl dX0_feed_21 ?_
    refine sn_callV hO (c2 := 0) (s2 := 0) (rm := rmX0_four) [.int p2] cvX0_179 (fun _ => sn_Rv_K atX_0) (fun h => ctX0_four h) ⟨Nat.le_of_ble_eq_true rfl, Nat.le_of_ble_eq_true rfl⟩ rfl rfl (Nat.le_of_ble_eq_true rfl) ⟨Nat.le_of_ble_eq_true rfl, Nat.le_of_ble_eq_true rfl, rfl, rfl⟩ dX0_feed_22 (sn_bV (fun S11 => ?_)) sn_x0
    refine sn_aload_n hO 0 rfl dX0_feed_25 ?_
    refine sn_iload_n hO 3 rfl dX0_feed_26 ?_
    refine sn_callV hO (c2 := 0) (s2 := 0) (rm := rmX0_four) [.int p3] cvX0_179 (fun _ => sn_Rv_K atX_0) (fun h => ctX0_four h) ⟨Nat.le_of_ble_eq_true rfl, Nat.le_of_ble_eq_true rfl⟩ rfl rfl (Nat.le_of_ble_eq_true rfl) ⟨Nat.le_of_ble_eq_true rfl, Nat.le_of_ble_eq_true rfl, rfl, rfl⟩ dX0_feed_27 (sn_bV (fun S12 => ?_)) sn_x0
    refine sn_aload_n hO 0 rfl dX0_feed_30 ?_
    refine sn_iload hO 4 rfl dX0_feed_31 ?_
    refine sn_callV hO (c2 := 0) (s2 := 0) (rm := rmX0_four) [.int p4] cvX0_179 (fun _ => sn_Rv_K atX_0) (fun h => ctX0_four h) ⟨Nat.le_of_ble_eq_true rfl, Nat.le_of_ble_eq_true rfl⟩ rfl rfl (Nat.le_of_ble_eq_true rfl) ⟨Nat.le_of_ble_eq_true rfl, Nat.le_of_ble_eq_true rfl, rfl, rfl⟩ dX0_feed_33 (sn_bV (fun S13 => ?_)) sn_x0
    refine sn_aload_n hO 0 rfl dX0_feed_36 ?_
    refine sn_iload hO 5 rfl dX0_feed_37 ?_
    refine sn_callV hO (c2 := 0) (s2 := 0) (rm := rmX0_four) [.int p5] cvX0_179 (fun _ => sn_Rv_K atX_0) (fun h => ctX0_four h) ⟨Nat.le_of_ble_eq_true rfl, Nat.le_of_ble_eq_true rfl⟩ rfl rfl (Nat.le_of_ble_eq_true rfl) ⟨Nat.le_of_ble_eq_true rfl, Nat.le_of_ble_eq_true rfl, rfl, rfl⟩ dX0_feed_39 (sn_bV (fun S14 => ?_)) sn_x0
    refine sn_aload_n hO 0 rfl dX0_feed_42 ?_
    refine sn_getI hO fX0_176 atX_0 dX0_feed_43 ?_
    subst hQq
    exact sn_iret hO rfl dX0_feed_46
  · refine sn_iconst hO kc_m1 dX0_feed_13 ?_
    subst hQq
    exact sn_iret hO rfl dX0_feed_14
theorem ctX0_feed {w : sn_W} {p1 : Int32} {p2 : Int32} {p3 : Int32} {p4 : Int32} {p5 : Int32} {S : sn_S} {Q : Int32 → sn_S → Prop} (h : wpX0_feed w p1 p2 p3 p4 p5 S Q) : sn_Ct LoX w yX0_feed (ws_ yX0_feed cX0_feed 6 (some .int)) rmX0_feed [.ref (w.2.2.1 0), .int p1, .int p2, .int p3, .int p4, .int p5] S (sn_qI Q) sn_noE := sn_Ct_of (XX_O w) (by decide) (Nat.le_of_ble_eq_true rfl) RX0 rfl (fun C hO => wkX0_feed hO p1 p2 p3 p4 p5 S Q h)
def rmX0_end : Room := { frames := 0, cells := 0, slots := 0, locals := 0 }
/-- SnailPost.end(I)I -/
def wpX0_end (w : sn_W) (p1 : Int32) (S : sn_S) (Q : Int32 → sn_S → Prop) : Prop :=
  ((p1 < 0 → Q (-1) S) ∧ (¬ p1 < 0 → ((p1 ≤ (S.1 0 5) → sn_lt (sn_pI S 0 5 p1) (fun S10 => Q p1 S10)) ∧ (¬ p1 ≤ (S.1 0 5) → Q (-1) S))))
theorem wkX0_end {w : sn_W} {C : sn_C} (hO : sn_Ok LoX w C RX0 cX0_end 2 (some .int) [] "end") (p1 : Int32) (S : sn_S) (Q : Int32 → sn_S → Prop) : wpX0_end w p1 S Q → sn_G LoX w rmX0_end (sn_qI Q) sn_noE C 0 0 0 [(0, .ref (w.2.2.1 0)), (1, .int p1)] [] S := by
  unfold wpX0_end
  generalize hQq : (sn_qI Q) = Qq
  refine sn_iload_n hO 1 rfl dX0_end_0 ?_
  refine sn_if_lt hO 12 (by decide) dX0_end_1 ?_ ?_
  · refine sn_iconst hO kc_m1 dX0_end_12 ?_
    subst hQq
    exact sn_iret hO rfl dX0_end_13
  · refine sn_iload_n hO 1 rfl dX0_end_4 ?_
    refine sn_aload_n hO 0 rfl dX0_end_5 ?_
    refine sn_getI hO fX0_176 atX_0 dX0_end_6 ?_
    refine sn_icmp_le hO 14 (by decide) dX0_end_9 ?_ ?_
    · refine sn_aload_n hO 0 rfl dX0_end_14 ?_
      refine sn_iload_n hO 1 rfl dX0_end_15 ?_
      refine sn_putI hO fX0_176 atX_0 rfl rfl dX0_end_16 ?_
      refine sn_nmS (fun S10 => ?_)
      refine sn_iload_n hO 1 rfl dX0_end_19 ?_
      subst hQq
      exact sn_iret hO rfl dX0_end_20
    · refine sn_iconst hO kc_m1 dX0_end_12 ?_
      subst hQq
      exact sn_iret hO rfl dX0_end_13
theorem ctX0_end {w : sn_W} {p1 : Int32} {S : sn_S} {Q : Int32 → sn_S → Prop} (h : wpX0_end w p1 S Q) : sn_Ct LoX w yX0_end (ws_ yX0_end cX0_end 2 (some .int)) rmX0_end [.ref (w.2.2.1 0), .int p1] S (sn_qI Q) sn_noE := sn_Ct_of (XX_O w) (by decide) (Nat.le_of_ble_eq_true rfl) RX0 rfl (fun C hO => wkX0_end hO p1 S Q h)
def rmX0_row : Room := { frames := 2, cells := 0, slots := 0, locals := 44 }
/-- SnailPost.row()I -/
def wpX0_row (w : sn_W) (S : sn_S) (Q : Int32 → sn_S → Prop) : Prop :=
  sn_lt (S.1 0 5) (fun x10 => sn_lt (sn_pI S 0 5 0) (fun S11 => ((¬ x10 = 0 → sn_jn (fun (v12 : Int32) (S13 : sn_S) => sn_lt (sn_pI S13 0 7 (x10 - v12)) (fun S15 => wpX0_told w v12 S15 (fun (r16 : Int32) (S17 : sn_S) => Q r16 S17))) (fun (k14 : Int32 → sn_S → Prop) => sn_lp3 (fun (rc21 : Int32 → Int32 → sn_S → Prop) (i18 : Int32) (i19 : Int32) (S20 : sn_S) => ((x10 ≤ i19 → k14 i18 S20) ∧ (¬ x10 ≤ i19 → ((96 ≤ i19 → k14 i18 S20) ∧ (¬ 96 ≤ i19 → (vp_in i19 400 ∧ sn_lt ((S20.1 11 (i19).toNatClampNeg) &&& 255) (fun x22 => sn_jn (fun (v23 : Int32) => sn_jn (fun (S25 : sn_S) => sn_jn (fun (S27 : sn_S) => sn_jn (fun (v29 : Int32) => sn_lt (i18 + v29) (fun x31 => rc21 x31 (i19 + 1) S27)) (fun (k30 : Int32 → Prop) => sn_jn (κ := Prop) (k30 1) (fun (k32 : Prop) => ((x22 < 10 → k32) ∧ (¬ x22 < 10 → ((v23 = 0 → k30 0) ∧ (¬ v23 = 0 → k32))))))) (fun (k28 : sn_S → Prop) => ((v23 = 0 → k28 S25) ∧ (¬ v23 = 0 → (vp_in i19 96 ∧ sn_lt (sn_pI S25 9 (i19).toNatClampNeg (vp_nar .boolean 1)) (fun S33 => k28 S33)))))) (fun (k26 : sn_S → Prop) => ((10 ≤ x22 → k26 S20) ∧ (¬ 10 ≤ x22 → (vp_in i19 96 ∧ sn_lt (sn_pI S20 3 (i19).toNatClampNeg x22) (fun S34 => k26 S34)))))) (fun (k24 : Int32 → Prop) => sn_jn (κ := Prop) (k24 0) (fun (k35 : Prop) => ((¬ x22 = 200 → k35) ∧ (x22 = 200 → wpX0_isNeeded w i19 S20 (fun (r36 : Int32) => ((¬ r36 = 0 → k35) ∧ (r36 = 0 → k24 1)))))))))))))) 0 0 S11)) ∧ (x10 = 0 → wpX0_refuse w (-6) S11 (fun (r37 : Int32) (S38 : sn_S) => Q r37 S38)))))
theorem wkX0_row {w : sn_W} {C : sn_C} (hO : sn_Ok LoX w C RX0 cX0_row 6 (some .int) [] "row") (S : sn_S) (Q : Int32 → sn_S → Prop) : wpX0_row w S Q → sn_G LoX w rmX0_row (sn_qI Q) sn_noE C 0 0 0 [(0, .ref (w.2.2.1 0))] [] S := by
  unfold wpX0_row
  generalize hQq : (sn_qI Q) = Qq
  refine sn_aload_n hO 0 rfl dX0_row_0 ?_
  refine sn_getI hO fX0_176 atX_0 dX0_row_1 ?_
  refine sn_nmI (fun x10 => ?_)
  refine sn_istore_n hO (lv' := [(1, .int x10), (0, .ref (w.2.2.1 0))]) (by decide) rfl dX0_row_4 ?_
  refine sn_aload_n hO 1 rfl dX0_row_5 ?_
  refine sn_iconst hO kc_0 dX0_row_6 ?_
  refine sn_putI hO fX0_176 atX_0 rfl rfl dX0_row_7 ?_
  refine sn_nmS (fun S11 => ?_)
  refine sn_iload_n hO 0 rfl dX0_row_10 ?_
  refine sn_if_ne hO 21 (by decide) dX0_row_11 ?_ ?_
  · refine sn_iconst hO kc_0 dX0_row_21 ?_
    refine sn_istore_n hO (lv' := [(2, .int 0), (1, .int x10), (0, .ref (w.2.2.1 0))]) (by decide) rfl dX0_row_22 ?_
    refine sn_iconst hO kc_0 dX0_row_23 ?_
    refine sn_istore_n hO (lv' := [(3, .int 0), (2, .int 0), (1, .int x10), (0, .ref (w.2.2.1 0))]) (by decide) rfl dX0_row_24 ?_
    refine sn_jn_walk (fun (k : Int32 → sn_S → Prop) => ∀ (v12 : Int32) (S13 : sn_S), k v12 S13 → sn_G LoX w rmX0_row Qq sn_noE C 0 0 130 [(0, .ref (w.2.2.1 0)), (1, .int x10), (2, .int v12)] [] S13) ?_ ?_
    · intro v12 S13
      refine sn_aload_n hO 0 rfl dX0_row_130 ?_
      refine sn_iload_n hO 1 rfl dX0_row_131 ?_
      refine sn_iload_n hO 2 rfl dX0_row_132 ?_
      refine sn_isub hO dX0_row_133 ?_
      refine sn_putI hO fX0_183 atX_0 rfl rfl dX0_row_134 ?_
      refine sn_nmS (fun S15 => ?_)
      refine sn_aload_n hO 0 rfl dX0_row_137 ?_
      refine sn_iload_n hO 2 rfl dX0_row_138 ?_
      refine sn_callV hO (c2 := 0) (s2 := 0) (rm := rmX0_told) [.int v12] cvX0_129 (fun _ => sn_Rv_K atX_0) (fun h => ctX0_told h) ⟨Nat.le_of_ble_eq_true rfl, Nat.le_of_ble_eq_true rfl⟩ rfl rfl (Nat.le_of_ble_eq_true rfl) ⟨Nat.le_of_ble_eq_true rfl, Nat.le_of_ble_eq_true rfl, rfl, rfl⟩ dX0_row_139 (sn_bI (fun r16 S17 => ?_)) sn_x0
      subst hQq
      exact sn_iret hO rfl dX0_row_142
    · intro k14 hk14
      refine sn_sub [3, 2, 1, 0] rfl ?_
      refine sn_lp3_walk (Gd := fun (i18 : Int32) (i19 : Int32) (S20 : sn_S) => sn_G LoX w rmX0_row Qq sn_noE C 0 0 25 [(0, .ref (w.2.2.1 0)), (1, .int x10), (2, .int i18), (3, .int i19)] [] S20) ?_ _ _ _
      intro rc21 hrc21 i18 i19 S20
      refine sn_iload_n hO 3 rfl dX0_row_25 ?_
      refine sn_iload_n hO 1 rfl dX0_row_26 ?_
      refine sn_icmp_ge hO 130 (by decide) dX0_row_27 ?_ ?_
      · refine sn_sub [0, 1, 2] rfl ?_
        exact hk14 _ _
      · refine sn_iload_n hO 3 rfl dX0_row_30 ?_
        refine sn_bipush hO kb_96 dX0_row_31 ?_
        refine sn_icmp_ge hO 130 (by decide) dX0_row_33 ?_ ?_
        · refine sn_sub [0, 1, 2] rfl ?_
          exact hk14 _ _
        · refine sn_aload_n hO 0 rfl dX0_row_36 ?_
          refine sn_getF hO fX0_24 atX_0 dX0_row_37 ?_
          refine sn_iload_n hO 3 rfl dX0_row_40 ?_
          refine sn_bald hO atX_11 rfl dX0_row_41 ?_
          refine sn_sipush hO ks_255 dX0_row_42 ?_
          refine sn_iand hO dX0_row_45 ?_
          refine sn_nmI (fun x22 => ?_)
          refine sn_istore hO (lv' := [(4, .int x22), (0, .ref (w.2.2.1 0)), (1, .int x10), (2, .int i18), (3, .int i19)]) (by decide) rfl dX0_row_46 ?_
          refine sn_iload hO 0 rfl dX0_row_48 ?_
          refine sn_sipush hO ks_200 dX0_row_50 ?_
          refine sn_jn_walk (fun (k : Int32 → Prop) => ∀ (v23 : Int32), k v23 → sn_G LoX w rmX0_row Qq sn_noE C 0 0 69 [(0, .ref (w.2.2.1 0)), (1, .int x10), (2, .int i18), (3, .int i19), (4, .int x22)] [.int v23] S20) ?_ ?_
          · intro v23
            refine sn_istore hO (lv' := [(5, .int v23), (0, .ref (w.2.2.1 0)), (1, .int x10), (2, .int i18), (3, .int i19), (4, .int x22)]) (by decide) rfl dX0_row_69 ?_
            refine sn_iload hO 5 rfl dX0_row_71 ?_
            refine sn_bipush hO kb_10 dX0_row_73 ?_
            refine sn_jn_walk (fun (k : sn_S → Prop) => ∀ (S25 : sn_S), k S25 → sn_G LoX w rmX0_row Qq sn_noE C 0 0 89 [(0, .ref (w.2.2.1 0)), (1, .int x10), (2, .int i18), (3, .int i19), (4, .int x22), (5, .int v23)] [] S25) ?_ ?_
            · intro S25
              refine sn_iload hO 5 rfl dX0_row_89 ?_
              refine sn_jn_walk (fun (k : sn_S → Prop) => ∀ (S27 : sn_S), k S27 → sn_G LoX w rmX0_row Qq sn_noE C 0 0 104 [(0, .ref (w.2.2.1 0)), (1, .int x10), (2, .int i18), (3, .int i19), (4, .int x22), (5, .int v23)] [] S27) ?_ ?_
              · intro S27
                refine sn_iload_n hO 2 rfl dX0_row_104 ?_
                refine sn_iload hO 4 rfl dX0_row_105 ?_
                refine sn_bipush hO kb_10 dX0_row_107 ?_
                refine sn_jn_walk (fun (k : Int32 → Prop) => ∀ (v29 : Int32), k v29 → sn_G LoX w rmX0_row Qq sn_noE C 0 0 122 [(0, .ref (w.2.2.1 0)), (1, .int x10), (3, .int i19)] [.int v29, .int i18] S27) ?_ ?_
                · intro v29
                  refine sn_iadd hO dX0_row_122 ?_
                  refine sn_nmI (fun x31 => ?_)
                  refine sn_istore_n hO (lv' := [(2, .int x31), (0, .ref (w.2.2.1 0)), (1, .int x10), (3, .int i19)]) (by decide) rfl dX0_row_123 ?_
                  refine sn_iinc hO (lv' := [(3, .int (i19 + 1)), (2, .int x31), (0, .ref (w.2.2.1 0)), (1, .int x10)]) 3 rfl ki_1 (by decide) rfl dX0_row_124 ?_
                  refine sn_goto hO 25 (by decide) dX0_row_127 ?_
                  refine sn_sub [2, 3, 1, 0] rfl ?_
                  exact hrc21 _ _ _
                · intro k30 hk30
                  refine sn_jn_walk (fun (k : Prop) => k → sn_G LoX w rmX0_row Qq sn_noE C 0 0 117 [(0, .ref (w.2.2.1 0)), (1, .int x10), (3, .int i19)] [.int i18] S27) ?_ ?_
                  · refine sn_iconst hO kc_1 dX0_row_117 ?_
                    refine sn_goto hO 122 (by decide) dX0_row_118 ?_
                    exact hk30 _
                  · intro k32 hk32
                    refine sn_icmp_lt hO 117 (by decide) dX0_row_109 ?_ ?_
                    · refine sn_sub [0, 1, 3] rfl ?_
                      exact hk32
                    · refine sn_iload hO 5 rfl dX0_row_112 ?_
                      refine sn_if_eq hO 121 (by decide) dX0_row_114 ?_ ?_
                      · refine sn_iconst hO kc_0 dX0_row_121 ?_
                        refine sn_sub [0, 1, 3] rfl ?_
                        exact hk30 _
                      · refine sn_sub [0, 1, 3] rfl ?_
                        exact hk32
              · intro k28 hk28
                refine sn_if_eq hO 104 (by decide) dX0_row_91 ?_ ?_
                · exact hk28 _
                · refine sn_aload_n hO 0 rfl dX0_row_94 ?_
                  refine sn_getF hO fX0_16 atX_0 dX0_row_95 ?_
                  refine sn_getFN hO fX0_150 atX_2 dX0_row_98 ?_
                  refine sn_iload_n hO 3 rfl dX0_row_101 ?_
                  refine sn_iconst hO kc_1 dX0_row_102 ?_
                  refine sn_zast hO atX_9 rfl dX0_row_103 ?_
                  refine sn_nmS (fun S33 => ?_)
                  exact hk28 _
            · intro k26 hk26
              refine sn_icmp_ge hO 89 (by decide) dX0_row_75 ?_ ?_
              · refine sn_sub [1, 2, 3, 4, 5, 0] rfl ?_
                exact hk26 _
              · refine sn_aload_n hO 1 rfl dX0_row_78 ?_
                refine sn_getF hO fX0_16 atX_0 dX0_row_79 ?_
                refine sn_getFN hO fX0_136 atX_2 dX0_row_82 ?_
                refine sn_iload_n hO 4 rfl dX0_row_85 ?_
                refine sn_iload hO 5 rfl dX0_row_86 ?_
                refine sn_iast hO atX_3 rfl dX0_row_88 ?_
                refine sn_nmS (fun S34 => ?_)
                refine sn_sub [1, 2, 3, 4, 5, 0] rfl ?_
                exact hk26 _
          · intro k24 hk24
            refine sn_jn_walk (fun (k : Prop) => k → sn_G LoX w rmX0_row Qq sn_noE C 0 0 68 [(0, .ref (w.2.2.1 0)), (1, .int x10), (2, .int i18), (3, .int i19), (4, .int x22)] [] S20) ?_ ?_
            · refine sn_iconst hO kc_0 dX0_row_68 ?_
              exact hk24 _
            · intro k35 hk35
              refine sn_icmp_ne hO 68 (by decide) dX0_row_53 ?_ ?_
              · refine sn_sub [1, 2, 3, 4, 0] rfl ?_
                exact hk35
              · refine sn_aload_n hO 1 rfl dX0_row_56 ?_
                refine sn_iload_n hO 4 rfl dX0_row_57 ?_
                refine sn_callV hO (c2 := 0) (s2 := 0) (rm := rmX0_isNeeded) [.int i19] cvX0_147 (fun _ => sn_Rv_K atX_0) (fun h => ctX0_isNeeded h) ⟨Nat.le_of_ble_eq_true rfl, Nat.le_of_ble_eq_true rfl⟩ rfl rfl (Nat.le_of_ble_eq_true rfl) ⟨Nat.le_of_ble_eq_true rfl, Nat.le_of_ble_eq_true rfl, rfl, rfl⟩ dX0_row_58 (sn_bIp (fun r36 => ?_)) sn_x0
                refine sn_if_ne hO 68 (by decide) dX0_row_61 ?_ ?_
                · refine sn_sub [1, 2, 3, 4, 0] rfl ?_
                  exact hk35
                · refine sn_iconst hO kc_1 dX0_row_64 ?_
                  refine sn_goto hO 69 (by decide) dX0_row_65 ?_
                  refine sn_sub [1, 2, 3, 4, 0] rfl ?_
                  exact hk24 _
  · refine sn_aload_n hO 1 rfl dX0_row_14 ?_
    refine sn_bipush hO kb_m6 dX0_row_15 ?_
    refine sn_callV hO (c2 := 0) (s2 := 0) (rm := rmX0_refuse) [.int (-6)] cvX0_122 (fun _ => sn_Rv_K atX_0) (fun h => ctX0_refuse h) ⟨Nat.le_of_ble_eq_true rfl, Nat.le_of_ble_eq_true rfl⟩ rfl rfl (Nat.le_of_ble_eq_true rfl) ⟨Nat.le_of_ble_eq_true rfl, Nat.le_of_ble_eq_true rfl, rfl, rfl⟩ dX0_row_17 (sn_bI (fun r37 S38 => ?_)) sn_x0
    subst hQq
    exact sn_iret hO rfl dX0_row_20
theorem ctX0_row {w : sn_W} {S : sn_S} {Q : Int32 → sn_S → Prop} (h : wpX0_row w S Q) : sn_Ct LoX w yX0_row (ws_ yX0_row cX0_row 6 (some .int)) rmX0_row [.ref (w.2.2.1 0)] S (sn_qI Q) sn_noE := sn_Ct_of (XX_O w) (by decide) (Nat.le_of_ble_eq_true rfl) RX0 rfl (fun C hO => wkX0_row hO S Q h)
def rmX0_spilt : Room := { frames := 0, cells := 0, slots := 0, locals := 0 }
/-- SnailPost.spilt()I -/
def wpX0_spilt (w : sn_W) (S : sn_S) (Q : Int32 → Prop) : Prop :=
  Q (S.1 0 7)
theorem wkX0_spilt {w : sn_W} {C : sn_C} (hO : sn_Ok LoX w C RX0 cX0_spilt 1 (some .int) [] "spilt") (S : sn_S) (Q : Int32 → Prop) : wpX0_spilt w S Q → sn_G LoX w rmX0_spilt (sn_qI (fun r S1 => S1 = S ∧ Q r)) sn_noE C 0 0 0 [(0, .ref (w.2.2.1 0))] [] S := by
  unfold wpX0_spilt
  generalize hQq : (sn_qI (fun r S1 => S1 = S ∧ Q r)) = Qq
  refine sn_aload_n hO 0 rfl dX0_spilt_0 ?_
  refine sn_getI hO fX0_183 atX_0 dX0_spilt_1 ?_
  subst hQq
  exact fun h => sn_iret hO rfl dX0_spilt_4 ⟨rfl, h⟩
theorem ctX0_spilt {w : sn_W} {S : sn_S} {Q : Int32 → Prop} (h : wpX0_spilt w S Q) : sn_Ct LoX w yX0_spilt (ws_ yX0_spilt cX0_spilt 1 (some .int)) rmX0_spilt [.ref (w.2.2.1 0)] S (sn_qI (fun r S1 => S1 = S ∧ Q r)) sn_noE := sn_Ct_of (XX_O w) (by decide) (Nat.le_of_ble_eq_true rfl) RX0 rfl (fun C hO => wkX0_spilt hO S Q h)
def rmJ2_size : Room := { frames := 0, cells := 0, slots := 0, locals := 0 }
/-- java/util/ArrayList.size()I -/
def wpJ2_size (w : sn_W) (a0 : Nat) (S : sn_S) (Q : Int32 → Prop) : Prop :=
  (sn_gI S a0 9 2 (fun x10 => Q x10))
theorem wkJ2_size {w : sn_W} {C : sn_C} (hO : sn_Ok LoX w C RJ2 cJ2_size 1 (some .int) [] "size") (a0 : Nat) (S : sn_S) (Q : Int32 → Prop) : wpJ2_size w a0 S Q → sn_G LoX w rmJ2_size (sn_qI (fun r S1 => S1 = S ∧ Q r)) sn_noE C 0 0 0 [(0, .ref a0)] [] S := by
  unfold wpJ2_size
  generalize hQq : (sn_qI (fun r S1 => S1 = S ∧ Q r)) = Qq
  refine sn_aload_n hO 0 rfl dJ2_size_0 ?_
  refine sn_ogetI hO fJ2_48 dJ2_size_1 (fun x10 => ?_)
  subst hQq
  exact fun h => sn_iret hO rfl dJ2_size_4 ⟨rfl, h⟩
theorem ctJ2_size {w : sn_W} {a0 : Nat} {S : sn_S} {Q : Int32 → Prop} (h : wpJ2_size w a0 S Q) : sn_Ct LoX w yJ2_size (ws_ yJ2_size cJ2_size 1 (some .int)) rmJ2_size [.ref a0] S (sn_qI (fun r S1 => S1 = S ∧ Q r)) sn_noE := sn_Ct_of (XX_O w) (by decide) (Nat.le_of_ble_eq_true rfl) RJ2 rfl (fun C hO => wkJ2_size hO a0 S Q h)
def rmX10_init (mc ms : Nat) : Room := { frames := 4, cells := mc, slots := ms, locals := 125 }
/-- SnailPost$Reader.<init>([BI)V -/
def wpX10_init (w : sn_W) (a0 : Nat) (p2 : Int32) (S : sn_S) (mc : Nat) (ms : Nat) (Q : sn_S → Prop) : Prop :=
  (sn_nw S mc ms 3 (.inr (9, [.int 0, .null, .int 0])) (fun a10 S11 => (∃ u12 u13 : Nat, u12 ≤ (mc - 1) ∧ u13 ≤ (ms - 3) ∧ wpJ2_init w a10 2 S11 u12 u13 (fun (S14 : sn_S) => (sn_sV S14 a0 10 2 (.ref a10) (fun S15 => (sn_sV S15 a0 10 0 (.ref (w.2.2.1 11)) (fun S16 => (sn_sV S16 a0 10 1 (.int p2) (fun S17 => Q S17))))))))))
theorem wkX10_init {w : sn_W} {C : sn_C} (hO : sn_Ok LoX w C RX10 cX10_init 3 none [] "<init>") (a0 : Nat) (p2 : Int32) (S : sn_S) (mc : Nat) (ms : Nat) (Q : sn_S → Prop) : wpX10_init w a0 p2 S mc ms Q → sn_G LoX w (rmX10_init mc ms) (sn_qV Q) sn_noE C mc ms 0 [(0, .ref a0), (1, .ref (w.2.2.1 11)), (2, .int p2)] [] S := by
  unfold wpX10_init
  generalize hQq : (sn_qV Q) = Qq
  refine sn_aload_n hO 0 rfl dX10_init_0 ?_
  refine sn_objInit hO q775 q146 q147 ⟨Nat.le_of_ble_eq_true rfl, Nat.le_of_ble_eq_true rfl⟩ dX10_init_1 ?_
  refine sn_aload_n hO 0 rfl dX10_init_4 ?_
  refine sn_new (fs := [.int 0, .null, .int 0]) hO tyJ2 in_J2 tyJ2_ok q776 q155 q107 rfl nfX_9 dX10_init_5 (fun a10 S11 => ?_)
  refine sn_dup hO rfl dX10_init_8 ?_
  refine sn_iconst hO kc_2 dX10_init_9 ?_
  refine sn_bud (fun u12 u13 hu12 hu13 => ?_)
  refine sn_callI (rY := none) hO (c2 := ((mc - 1) - u12)) (s2 := ((ms - 3) - u13)) (rm := (rmJ2_init u12 u13)) [.int 2] ciX10_11 (fun h => ctJ2_init h) ⟨Nat.le_of_ble_eq_true rfl, Nat.le_of_ble_eq_true rfl⟩ rfl rfl (Nat.le_of_ble_eq_true rfl) ⟨hu12, hu13, rfl, rfl⟩ dX10_init_10 (sn_bV (fun S14 => ?_)) sn_x0
  refine sn_oputF hO fX10_14 (fun _ _ _ h => by cases h; rfl) rfl rfl dX10_init_13 (fun S15 => ?_)
  refine sn_aload_n hO 0 rfl dX10_init_16 ?_
  refine sn_aload_n hO 1 rfl dX10_init_17 ?_
  refine sn_oputF hO fX10_20 (fun _ _ _ h => by cases h; rfl) rfl rfl dX10_init_18 (fun S16 => ?_)
  refine sn_aload_n hO 0 rfl dX10_init_21 ?_
  refine sn_iload_n hO 2 rfl dX10_init_22 ?_
  refine sn_oputF hO fX10_24 (fun _ _ _ h => by cases h; rfl) rfl rfl dX10_init_23 (fun S17 => ?_)
  subst hQq
  exact sn_vret hO rfl dX10_init_26
theorem ctX10_init {w : sn_W} {a0 : Nat} {p2 : Int32} {S : sn_S} {mc : Nat} {ms : Nat} {Q : sn_S → Prop} (h : wpX10_init w a0 p2 S mc ms Q) : sn_Ct LoX w yX10_init (ws_ yX10_init cX10_init 3 none) (rmX10_init mc ms) [.ref a0, .ref (w.2.2.1 11), .int p2] S (sn_qV Q) sn_noE := sn_Ct_of (XX_O w) (by decide) (Nat.le_of_ble_eq_true rfl) RX10 rfl (fun C hO => wkX10_init hO a0 p2 S mc ms Q h)
def rmX10_isIn : Room := { frames := 0, cells := 0, slots := 0, locals := 0 }
/-- SnailPost$Reader.isIn(III)Z -/
def wpX10_isIn (w : sn_W) (a0 : Nat) (p1 : Int32) (p2 : Int32) (p3 : Int32) (S : sn_S) (Q : Int32 → Prop) : Prop :=
  (sn_gI S a0 10 1 (fun x10 => ((x10 ≤ p1 → Q 0) ∧ (¬ x10 ≤ p1 → (sn_gK w S a0 10 0 11 ((vp_in p1 400 ∧ (((S.1 11 (p1).toNatClampNeg) < p2 → Q 0) ∧ (¬ (S.1 11 (p1).toNatClampNeg) < p2 → (sn_gK w S a0 10 0 11 ((vp_in p1 400 ∧ ((p3 < (S.1 11 (p1).toNatClampNeg) → Q 0) ∧ (¬ p3 < (S.1 11 (p1).toNatClampNeg) → Q 1))))))))))))))
theorem wkX10_isIn {w : sn_W} {C : sn_C} (hO : sn_Ok LoX w C RX10 cX10_isIn 4 (some .boolean) [] "isIn") (a0 : Nat) (p1 : Int32) (p2 : Int32) (p3 : Int32) (S : sn_S) (Q : Int32 → Prop) : wpX10_isIn w a0 p1 p2 p3 S Q → sn_G LoX w rmX10_isIn (sn_qI (fun r S1 => S1 = S ∧ Q r)) sn_noE C 0 0 0 [(0, .ref a0), (1, .int p1), (2, .int p2), (3, .int p3)] [] S := by
  unfold wpX10_isIn
  generalize hQq : (sn_qI (fun r S1 => S1 = S ∧ Q r)) = Qq
  refine sn_iload_n hO 1 rfl dX10_isIn_0 ?_
  refine sn_aload_n hO 0 rfl dX10_isIn_1 ?_
  refine sn_ogetI hO fX10_24 dX10_isIn_2 (fun x10 => ?_)
  refine sn_icmp_ge hO 32 (by decide) dX10_isIn_5 ?_ ?_
  · refine sn_iconst hO kc_0 dX10_isIn_32 ?_
    subst hQq
    exact fun h => sn_zret hO (ty := .boolean) rfl rfl dX10_isIn_33 ⟨rfl, h⟩
  · refine sn_aload_n hO 0 rfl dX10_isIn_8 ?_
    refine sn_ogetK hO fX10_20 dX10_isIn_9 ?_
    refine sn_iload_n hO 1 rfl dX10_isIn_12 ?_
    refine sn_bald hO atX_11 rfl dX10_isIn_13 ?_
    refine sn_iload_n hO 2 rfl dX10_isIn_14 ?_
    refine sn_icmp_lt hO 32 (by decide) dX10_isIn_15 ?_ ?_
    · refine sn_iconst hO kc_0 dX10_isIn_32 ?_
      subst hQq
      exact fun h => sn_zret hO (ty := .boolean) rfl rfl dX10_isIn_33 ⟨rfl, h⟩
    · refine sn_aload_n hO 0 rfl dX10_isIn_18 ?_
      refine sn_ogetK hO fX10_20 dX10_isIn_19 ?_
      refine sn_iload_n hO 1 rfl dX10_isIn_22 ?_
      refine sn_bald hO atX_11 rfl dX10_isIn_23 ?_
      refine sn_iload_n hO 3 rfl dX10_isIn_24 ?_
      refine sn_icmp_gt hO 32 (by decide) dX10_isIn_25 ?_ ?_
      · refine sn_iconst hO kc_0 dX10_isIn_32 ?_
        subst hQq
        exact fun h => sn_zret hO (ty := .boolean) rfl rfl dX10_isIn_33 ⟨rfl, h⟩
      · refine sn_iconst hO kc_1 dX10_isIn_28 ?_
        refine sn_goto hO 33 (by decide) dX10_isIn_29 ?_
        subst hQq
        exact fun h => sn_zret hO (ty := .boolean) rfl rfl dX10_isIn_33 ⟨rfl, h⟩
theorem ctX10_isIn {w : sn_W} {a0 : Nat} {p1 : Int32} {p2 : Int32} {p3 : Int32} {S : sn_S} {Q : Int32 → Prop} (h : wpX10_isIn w a0 p1 p2 p3 S Q) : sn_Ct LoX w yX10_isIn (ws_ yX10_isIn cX10_isIn 4 (some .boolean)) rmX10_isIn [.ref a0, .int p1, .int p2, .int p3] S (sn_qI (fun r S1 => S1 = S ∧ Q r)) sn_noE := sn_Ct_of (XX_O w) (by decide) (Nat.le_of_ble_eq_true rfl) RX10 rfl (fun C hO => wkX10_isIn hO a0 p1 p2 p3 S Q h)
def rmX10_next : Room := { frames := 1, cells := 0, slots := 0, locals := 23 }
/-- SnailPost$Reader.next()V -/
def wpX10_next (w : sn_W) (a0 : Nat) (S : sn_S) (Q : sn_S → Prop) : Prop :=
  (sn_gI S a0 10 4 (fun x10 => (sn_sV S a0 10 3 (.int x10) (fun S11 => sn_jn (fun (S12 : sn_S) => (sn_gI S12 a0 10 3 (fun x14 => (sn_sV S12 a0 10 4 (.int x14) (fun S15 => (sn_gI S15 a0 10 3 (fun x16 => ((∃ fs, sn_oO S15 a0 10 fs) ∧ wpX10_isIn w a0 x16 97 122 S15 (fun (r17 : Int32) => ((r17 = 0 → (sn_gI S15 a0 10 3 (fun x18 => ((∃ fs, sn_oO S15 a0 10 fs) ∧ wpX10_isIn w a0 x18 48 57 S15 (fun (r19 : Int32) => ((r19 = 0 → (sn_gI S15 a0 10 3 (fun x20 => (sn_gI S15 a0 10 1 (fun x21 => ((x21 ≤ x20 → Q S15) ∧ (¬ x21 ≤ x20 → (sn_gI S15 a0 10 4 (fun x22 => (sn_sV S15 a0 10 4 (.int (x22 + 1)) (fun S23 => Q S23))))))))))) ∧ (¬ r19 = 0 → sn_lp1 (fun (rc25 : sn_S → Prop) (S24 : sn_S) => (sn_gI S24 a0 10 4 (fun x26 => ((∃ fs, sn_oO S24 a0 10 fs) ∧ wpX10_isIn w a0 x26 48 57 S24 (fun (r27 : Int32) => ((r27 = 0 → Q S24) ∧ (¬ r27 = 0 → (sn_gI S24 a0 10 4 (fun x28 => (sn_sV S24 a0 10 4 (.int (x28 + 1)) (fun S29 => rc25 S29))))))))))) S15))))))) ∧ (¬ r17 = 0 → sn_lp1 (fun (rc31 : sn_S → Prop) (S30 : sn_S) => (sn_gI S30 a0 10 4 (fun x32 => ((∃ fs, sn_oO S30 a0 10 fs) ∧ wpX10_isIn w a0 x32 97 122 S30 (fun (r33 : Int32) => ((r33 = 0 → Q S30) ∧ (¬ r33 = 0 → (sn_gI S30 a0 10 4 (fun x34 => (sn_sV S30 a0 10 4 (.int (x34 + 1)) (fun S35 => rc31 S35))))))))))) S15))))))))))) (fun (k13 : sn_S → Prop) => sn_lp1 (fun (rc37 : sn_S → Prop) (S36 : sn_S) => (sn_gI S36 a0 10 3 (fun x38 => ((∃ fs, sn_oO S36 a0 10 fs) ∧ wpX10_isIn w a0 x38 32 32 S36 (fun (r39 : Int32) => ((r39 = 0 → k13 S36) ∧ (¬ r39 = 0 → (sn_gI S36 a0 10 3 (fun x40 => (sn_sV S36 a0 10 3 (.int (x40 + 1)) (fun S41 => rc37 S41))))))))))) S11)))))
theorem wkX10_next {w : sn_W} {C : sn_C} (hO : sn_Ok LoX w C RX10 cX10_next 1 none [] "next") (a0 : Nat) (S : sn_S) (Q : sn_S → Prop) : wpX10_next w a0 S Q → sn_G LoX w rmX10_next (sn_qV Q) sn_noE C 0 0 0 [(0, .ref a0)] [] S := by
  unfold wpX10_next
  generalize hQq : (sn_qV Q) = Qq
  refine sn_aload_n hO 0 rfl dX10_next_0 ?_
  refine sn_aload_n hO 0 rfl dX10_next_1 ?_
  refine sn_ogetI hO fX10_28 dX10_next_2 (fun x10 => ?_)
  refine sn_oput hO fX10_31 rfl rfl dX10_next_5 (fun S11 => ?_)
  refine sn_jn_walk (fun (k : sn_S → Prop) => ∀ (S12 : sn_S), k S12 → sn_G LoX w rmX10_next Qq sn_noE C 0 0 36 [(0, .ref a0)] [] S12) ?_ ?_
  · intro S12
    refine sn_aload_n hO 0 rfl dX10_next_36 ?_
    refine sn_aload_n hO 0 rfl dX10_next_37 ?_
    refine sn_ogetI hO fX10_31 dX10_next_38 (fun x14 => ?_)
    refine sn_oput hO fX10_28 rfl rfl dX10_next_41 (fun S15 => ?_)
    refine sn_aload_n hO 0 rfl dX10_next_44 ?_
    refine sn_aload_n hO 0 rfl dX10_next_45 ?_
    refine sn_ogetI hO fX10_31 dX10_next_46 (fun x16 => ?_)
    refine sn_bipush hO kb_97 dX10_next_49 ?_
    refine sn_bipush hO kb_122 dX10_next_51 ?_
    refine sn_callV (P := (∃ fs, sn_oO S15 a0 10 fs) ∧ _) hO (c2 := 0) (s2 := 0) (rm := rmX10_isIn) [.int x16, .int 97, .int 122] cvX10_34 sn_RvP (fun h => ctX10_isIn h.2) ⟨Nat.le_of_ble_eq_true rfl, Nat.le_of_ble_eq_true rfl⟩ rfl rfl (Nat.le_of_ble_eq_true rfl) ⟨Nat.le_of_ble_eq_true rfl, Nat.le_of_ble_eq_true rfl, rfl, rfl⟩ dX10_next_53 (sn_bIp (fun r17 => ?_)) sn_x0
    refine sn_if_eq hO 87 (by decide) dX10_next_56 ?_ ?_
    · refine sn_aload_n hO 0 rfl dX10_next_87 ?_
      refine sn_aload_n hO 0 rfl dX10_next_88 ?_
      refine sn_ogetI hO fX10_31 dX10_next_89 (fun x18 => ?_)
      refine sn_bipush hO kb_48 dX10_next_92 ?_
      refine sn_bipush hO kb_57 dX10_next_94 ?_
      refine sn_callV (P := (∃ fs, sn_oO S15 a0 10 fs) ∧ _) hO (c2 := 0) (s2 := 0) (rm := rmX10_isIn) [.int x18, .int 48, .int 57] cvX10_34 sn_RvP (fun h => ctX10_isIn h.2) ⟨Nat.le_of_ble_eq_true rfl, Nat.le_of_ble_eq_true rfl⟩ rfl rfl (Nat.le_of_ble_eq_true rfl) ⟨Nat.le_of_ble_eq_true rfl, Nat.le_of_ble_eq_true rfl, rfl, rfl⟩ dX10_next_96 (sn_bIp (fun r19 => ?_)) sn_x0
      refine sn_if_eq hO 130 (by decide) dX10_next_99 ?_ ?_
      · refine sn_aload_n hO 0 rfl dX10_next_130 ?_
        refine sn_ogetI hO fX10_31 dX10_next_131 (fun x20 => ?_)
        refine sn_aload_n hO 0 rfl dX10_next_134 ?_
        refine sn_ogetI hO fX10_24 dX10_next_135 (fun x21 => ?_)
        refine sn_icmp_ge hO 151 (by decide) dX10_next_138 ?_ ?_
        · subst hQq
          exact sn_vret hO rfl dX10_next_151
        · refine sn_aload_n hO 0 rfl dX10_next_141 ?_
          refine sn_dup hO rfl dX10_next_142 ?_
          refine sn_ogetI hO fX10_28 dX10_next_143 (fun x22 => ?_)
          refine sn_iconst hO kc_1 dX10_next_146 ?_
          refine sn_iadd hO dX10_next_147 ?_
          refine sn_oput hO fX10_28 rfl rfl dX10_next_148 (fun S23 => ?_)
          subst hQq
          exact sn_vret hO rfl dX10_next_151
      · refine sn_lp1_walk (Gd := fun (S24 : sn_S) => sn_G LoX w rmX10_next Qq sn_noE C 0 0 102 [(0, .ref a0)] [] S24) ?_ _
        intro rc25 hrc25 S24
        refine sn_aload_n hO 0 rfl dX10_next_102 ?_
        refine sn_aload_n hO 0 rfl dX10_next_103 ?_
        refine sn_ogetI hO fX10_28 dX10_next_104 (fun x26 => ?_)
        refine sn_bipush hO kb_48 dX10_next_107 ?_
        refine sn_bipush hO kb_57 dX10_next_109 ?_
        refine sn_callV (P := (∃ fs, sn_oO S24 a0 10 fs) ∧ _) hO (c2 := 0) (s2 := 0) (rm := rmX10_isIn) [.int x26, .int 48, .int 57] cvX10_34 sn_RvP (fun h => ctX10_isIn h.2) ⟨Nat.le_of_ble_eq_true rfl, Nat.le_of_ble_eq_true rfl⟩ rfl rfl (Nat.le_of_ble_eq_true rfl) ⟨Nat.le_of_ble_eq_true rfl, Nat.le_of_ble_eq_true rfl, rfl, rfl⟩ dX10_next_111 (sn_bIp (fun r27 => ?_)) sn_x0
        refine sn_if_eq hO 151 (by decide) dX10_next_114 ?_ ?_
        · subst hQq
          exact sn_vret hO rfl dX10_next_151
        · refine sn_aload_n hO 0 rfl dX10_next_117 ?_
          refine sn_dup hO rfl dX10_next_118 ?_
          refine sn_ogetI hO fX10_28 dX10_next_119 (fun x28 => ?_)
          refine sn_iconst hO kc_1 dX10_next_122 ?_
          refine sn_iadd hO dX10_next_123 ?_
          refine sn_oput hO fX10_28 rfl rfl dX10_next_124 (fun S29 => ?_)
          refine sn_goto hO 102 (by decide) dX10_next_127 ?_
          exact hrc25 _
    · refine sn_lp1_walk (Gd := fun (S30 : sn_S) => sn_G LoX w rmX10_next Qq sn_noE C 0 0 59 [(0, .ref a0)] [] S30) ?_ _
      intro rc31 hrc31 S30
      refine sn_aload_n hO 0 rfl dX10_next_59 ?_
      refine sn_aload_n hO 0 rfl dX10_next_60 ?_
      refine sn_ogetI hO fX10_28 dX10_next_61 (fun x32 => ?_)
      refine sn_bipush hO kb_97 dX10_next_64 ?_
      refine sn_bipush hO kb_122 dX10_next_66 ?_
      refine sn_callV (P := (∃ fs, sn_oO S30 a0 10 fs) ∧ _) hO (c2 := 0) (s2 := 0) (rm := rmX10_isIn) [.int x32, .int 97, .int 122] cvX10_34 sn_RvP (fun h => ctX10_isIn h.2) ⟨Nat.le_of_ble_eq_true rfl, Nat.le_of_ble_eq_true rfl⟩ rfl rfl (Nat.le_of_ble_eq_true rfl) ⟨Nat.le_of_ble_eq_true rfl, Nat.le_of_ble_eq_true rfl, rfl, rfl⟩ dX10_next_68 (sn_bIp (fun r33 => ?_)) sn_x0
      refine sn_if_eq hO 151 (by decide) dX10_next_71 ?_ ?_
      · subst hQq
        exact sn_vret hO rfl dX10_next_151
      · refine sn_aload_n hO 0 rfl dX10_next_74 ?_
        refine sn_dup hO rfl dX10_next_75 ?_
        refine sn_ogetI hO fX10_28 dX10_next_76 (fun x34 => ?_)
        refine sn_iconst hO kc_1 dX10_next_79 ?_
        refine sn_iadd hO dX10_next_80 ?_
        refine sn_oput hO fX10_28 rfl rfl dX10_next_81 (fun S35 => ?_)
        refine sn_goto hO 59 (by decide) dX10_next_84 ?_
        exact hrc31 _
  · intro k13 hk13
    refine sn_lp1_walk (Gd := fun (S36 : sn_S) => sn_G LoX w rmX10_next Qq sn_noE C 0 0 8 [(0, .ref a0)] [] S36) ?_ _
    intro rc37 hrc37 S36
    refine sn_aload_n hO 0 rfl dX10_next_8 ?_
    refine sn_aload_n hO 0 rfl dX10_next_9 ?_
    refine sn_ogetI hO fX10_31 dX10_next_10 (fun x38 => ?_)
    refine sn_bipush hO kb_32 dX10_next_13 ?_
    refine sn_bipush hO kb_32 dX10_next_15 ?_
    refine sn_callV (P := (∃ fs, sn_oO S36 a0 10 fs) ∧ _) hO (c2 := 0) (s2 := 0) (rm := rmX10_isIn) [.int x38, .int 32, .int 32] cvX10_34 sn_RvP (fun h => ctX10_isIn h.2) ⟨Nat.le_of_ble_eq_true rfl, Nat.le_of_ble_eq_true rfl⟩ rfl rfl (Nat.le_of_ble_eq_true rfl) ⟨Nat.le_of_ble_eq_true rfl, Nat.le_of_ble_eq_true rfl, rfl, rfl⟩ dX10_next_17 (sn_bIp (fun r39 => ?_)) sn_x0
    refine sn_if_eq hO 36 (by decide) dX10_next_20 ?_ ?_
    · exact hk13 _
    · refine sn_aload_n hO 0 rfl dX10_next_23 ?_
      refine sn_dup hO rfl dX10_next_24 ?_
      refine sn_ogetI hO fX10_31 dX10_next_25 (fun x40 => ?_)
      refine sn_iconst hO kc_1 dX10_next_28 ?_
      refine sn_iadd hO dX10_next_29 ?_
      refine sn_oput hO fX10_31 rfl rfl dX10_next_30 (fun S41 => ?_)
      refine sn_goto hO 8 (by decide) dX10_next_33 ?_
      exact hrc37 _
theorem ctX10_next {w : sn_W} {a0 : Nat} {S : sn_S} {Q : sn_S → Prop} (h : wpX10_next w a0 S Q) : sn_Ct LoX w yX10_next (ws_ yX10_next cX10_next 1 none) rmX10_next [.ref a0] S (sn_qV Q) sn_noE := sn_Ct_of (XX_O w) (by decide) (Nat.le_of_ble_eq_true rfl) RX10 rfl (fun C hO => wkX10_next hO a0 S Q h)
def rmJ5_coder : Room := { frames := 0, cells := 0, slots := 0, locals := 0 }
/-- java/lang/String.coder()B -/
def wpJ5_coder (w : sn_W) (s0 : Nat) (S : sn_S) (Q : Int32 → Prop) : Prop :=
  (((1 : Int32) = 0 → Q 1) ∧ (¬ (1 : Int32) = 0 → Q 0))
theorem wkJ5_coder {w : sn_W} {C : sn_C} (hO : sn_Ok LoX w C RJ5 cJ5_coder 1 (some .byte) [] "coder") (s0 : Nat) (S : sn_S) (hs0 : s0 < 29) (Q : Int32 → Prop) : wpJ5_coder w s0 S Q → sn_G LoX w rmJ5_coder (sn_qI (fun r S1 => S1 = S ∧ Q r)) sn_noE C 0 0 0 [(0, .ref (w.2.2.2.2.1 s0))] [] S := by
  unfold wpJ5_coder
  generalize hQq : (sn_qI (fun r S1 => S1 = S ∧ Q r)) = Qq
  refine sn_gets hO csX q830 dJ5_coder_0 ?_
  refine sn_if_eq hO 13 (by decide) dJ5_coder_3 ?_ ?_
  · refine sn_iconst hO kc_1 dJ5_coder_13 ?_
    subst hQq
    exact fun h => sn_zret hO (ty := .byte) rfl rfl dJ5_coder_14 ⟨rfl, h⟩
  · refine sn_aload_n hO 0 rfl dJ5_coder_6 ?_
    refine sn_tget hO (fun A U H h => tcX hs0 w A U H h) q2108 dJ5_coder_7 ?_
    refine sn_goto hO 14 (by decide) dJ5_coder_10 ?_
    subst hQq
    exact fun h => sn_zret hO (ty := .byte) rfl rfl dJ5_coder_14 ⟨rfl, h⟩
theorem ctJ5_coder {w : sn_W} {s0 : Nat} (hs0 : s0 < 29) {S : sn_S} {Q : Int32 → Prop} (h : wpJ5_coder w s0 S Q) : sn_Ct LoX w yJ5_coder (ws_ yJ5_coder cJ5_coder 1 (some .byte)) rmJ5_coder [.ref (w.2.2.2.2.1 s0)] S (sn_qI (fun r S1 => S1 = S ∧ Q r)) sn_noE := sn_Ct_of (XX_O w) (by decide) (Nat.le_of_ble_eq_true rfl) RJ5 rfl (fun C hO => wkJ5_coder hO s0 S hs0 Q h)
def rmJ5_length : Room := { frames := 1, cells := 0, slots := 0, locals := 20 }
/-- java/lang/String.length()I -/
def wpJ5_length (w : sn_W) (s0 : Nat) (S : sn_S) (Q : Int32 → Prop) : Prop :=
  wpJ5_coder w s0 S (fun (r10 : Int32) => Q ((Int32.ofNat (skL.getD s0 0)) >>> (r10 &&& 31)))
theorem wkJ5_length {w : sn_W} {C : sn_C} (hO : sn_Ok LoX w C RJ5 cJ5_length 1 (some .int) [] "length") (s0 : Nat) (S : sn_S) (hs0 : s0 < 29) (Q : Int32 → Prop) : wpJ5_length w s0 S Q → sn_G LoX w rmJ5_length (sn_qI (fun r S1 => S1 = S ∧ Q r)) sn_noE C 0 0 0 [(0, .ref (w.2.2.2.2.1 s0))] [] S := by
  unfold wpJ5_length
  generalize hQq : (sn_qI (fun r S1 => S1 = S ∧ Q r)) = Qq
  refine sn_aload_n hO 0 rfl dJ5_length_0 ?_
  refine sn_tget hO (fun A U H h => tvX hs0 w A U H h) q2107 dJ5_length_1 ?_
  refine sn_tlen hO (fun A U H h => tbX hs0 w A U H h) dJ5_length_4 ?_
  refine sn_aload_n hO 0 rfl dJ5_length_5 ?_
  refine sn_callT hO (c2 := 0) (s2 := 0) (rm := rmJ5_coder) [] (toX hs0) ctJ5_335 (fun h => ctJ5_coder hs0 h) ⟨Nat.le_of_ble_eq_true rfl, Nat.le_of_ble_eq_true rfl⟩ rfl rfl (Nat.le_of_ble_eq_true rfl) ⟨Nat.le_of_ble_eq_true rfl, Nat.le_of_ble_eq_true rfl, rfl, rfl⟩ dJ5_length_6 (sn_bIp (fun r10 => ?_)) sn_x0
  refine sn_ishr hO dJ5_length_9 ?_
  subst hQq
  exact fun h => sn_iret hO rfl dJ5_length_10 ⟨rfl, h⟩
theorem ctJ5_length {w : sn_W} {s0 : Nat} (hs0 : s0 < 29) {S : sn_S} {Q : Int32 → Prop} (h : wpJ5_length w s0 S Q) : sn_Ct LoX w yJ5_length (ws_ yJ5_length cJ5_length 1 (some .int)) rmJ5_length [.ref (w.2.2.2.2.1 s0)] S (sn_qI (fun r S1 => S1 = S ∧ Q r)) sn_noE := sn_Ct_of (XX_O w) (by decide) (Nat.le_of_ble_eq_true rfl) RJ5 rfl (fun C hO => wkJ5_length hO s0 S hs0 Q h)
def rmJ5_isLatin1 : Room := { frames := 0, cells := 0, slots := 0, locals := 0 }
/-- java/lang/String.isLatin1()Z -/
def wpJ5_isLatin1 (w : sn_W) (s0 : Nat) (S : sn_S) (Q : Int32 → Prop) : Prop :=
  (((1 : Int32) = 0 → Q 0) ∧ (¬ (1 : Int32) = 0 → ((¬ (0 : Int32) = 0 → Q 0) ∧ ((0 : Int32) = 0 → Q 1))))
theorem wkJ5_isLatin1 {w : sn_W} {C : sn_C} (hO : sn_Ok LoX w C RJ5 cJ5_isLatin1 1 (some .boolean) [] "isLatin1") (s0 : Nat) (S : sn_S) (hs0 : s0 < 29) (Q : Int32 → Prop) : wpJ5_isLatin1 w s0 S Q → sn_G LoX w rmJ5_isLatin1 (sn_qI (fun r S1 => S1 = S ∧ Q r)) sn_noE C 0 0 0 [(0, .ref (w.2.2.2.2.1 s0))] [] S := by
  unfold wpJ5_isLatin1
  generalize hQq : (sn_qI (fun r S1 => S1 = S ∧ Q r)) = Qq
  refine sn_gets hO csX q830 dJ5_isLatin1_0 ?_
  refine sn_if_eq hO 17 (by decide) dJ5_isLatin1_3 ?_ ?_
  · refine sn_iconst hO kc_0 dJ5_isLatin1_17 ?_
    subst hQq
    exact fun h => sn_zret hO (ty := .boolean) rfl rfl dJ5_isLatin1_18 ⟨rfl, h⟩
  · refine sn_aload_n hO 0 rfl dJ5_isLatin1_6 ?_
    refine sn_tget hO (fun A U H h => tcX hs0 w A U H h) q2108 dJ5_isLatin1_7 ?_
    refine sn_if_ne hO 17 (by decide) dJ5_isLatin1_10 ?_ ?_
    · refine sn_iconst hO kc_0 dJ5_isLatin1_17 ?_
      subst hQq
      exact fun h => sn_zret hO (ty := .boolean) rfl rfl dJ5_isLatin1_18 ⟨rfl, h⟩
    · refine sn_iconst hO kc_1 dJ5_isLatin1_13 ?_
      refine sn_goto hO 18 (by decide) dJ5_isLatin1_14 ?_
      subst hQq
      exact fun h => sn_zret hO (ty := .boolean) rfl rfl dJ5_isLatin1_18 ⟨rfl, h⟩
theorem ctJ5_isLatin1 {w : sn_W} {s0 : Nat} (hs0 : s0 < 29) {S : sn_S} {Q : Int32 → Prop} (h : wpJ5_isLatin1 w s0 S Q) : sn_Ct LoX w yJ5_isLatin1 (ws_ yJ5_isLatin1 cJ5_isLatin1 1 (some .boolean)) rmJ5_isLatin1 [.ref (w.2.2.2.2.1 s0)] S (sn_qI (fun r S1 => S1 = S ∧ Q r)) sn_noE := sn_Ct_of (XX_O w) (by decide) (Nat.le_of_ble_eq_true rfl) RJ5 rfl (fun C hO => wkJ5_isLatin1 hO s0 S hs0 Q h)
def rmJ7_checkIndex : Room := { frames := 0, cells := 0, slots := 0, locals := 0 }
/-- jdk/internal/util/Preconditions.checkIndex(IILjava/util/function/BiFunction;)I -/
def wpJ7_checkIndex (w : sn_W) (p1 : Int32) (p2 : Int32) (q3 : Option Nat) (Q : Int32 → Prop) : Prop :=
  ((p1 < 0 → False) ∧ (¬ p1 < 0 → ((p1 < p2 → Q p1) ∧ (¬ p1 < p2 → False))))
theorem wkJ7_checkIndex {w : sn_W} {C : sn_C} (hO : sn_Ok LoX w C RJ7 cJ7_checkIndex 3 (some .int) [] "checkIndex") (p1 : Int32) (p2 : Int32) (q3 : Option Nat) (S : sn_S) (Q : Int32 → Prop) : wpJ7_checkIndex w p1 p2 q3 Q → sn_G LoX w rmJ7_checkIndex (sn_qI (fun r S1 => S1 = S ∧ Q r)) sn_noE C 0 0 0 [(0, .int p1), (1, .int p2), (2, va_rf q3)] [] S := by
  unfold wpJ7_checkIndex
  generalize hQq : (sn_qI (fun r S1 => S1 = S ∧ Q r)) = Qq
  refine sn_iload_n hO 0 rfl dJ7_checkIndex_0 ?_
  refine sn_if_lt hO 9 (by decide) dJ7_checkIndex_1 ?_ ?_
  · exact sn_no (fun h => h)
  · refine sn_iload_n hO 0 rfl dJ7_checkIndex_4 ?_
    refine sn_iload_n hO 1 rfl dJ7_checkIndex_5 ?_
    refine sn_icmp_lt hO 16 (by decide) dJ7_checkIndex_6 ?_ ?_
    · refine sn_iload_n hO 0 rfl dJ7_checkIndex_16 ?_
      subst hQq
      exact fun h => sn_iret hO rfl dJ7_checkIndex_17 ⟨rfl, h⟩
    · exact sn_no (fun h => h)
theorem ctJ7_checkIndex {w : sn_W} {p1 : Int32} {p2 : Int32} {q3 : Option Nat} {S : sn_S} {Q : Int32 → Prop} (h : wpJ7_checkIndex w p1 p2 q3 Q) : sn_Ct LoX w yJ7_checkIndex (ws_ yJ7_checkIndex cJ7_checkIndex 3 (some .int)) rmJ7_checkIndex [.int p1, .int p2, va_rf q3] S (sn_qI (fun r S1 => S1 = S ∧ Q r)) sn_noE := sn_Ct_of (XX_O w) (by decide) (by cases q3 <;> exact Nat.le_of_ble_eq_true rfl) RJ7 rfl (fun C hO => wkJ7_checkIndex hO p1 p2 q3 S Q h)
def rmJ5_checkIndex : Room := { frames := 1, cells := 0, slots := 0, locals := 22 }
/-- java/lang/String.checkIndex(II)V -/
def wpJ5_checkIndex (w : sn_W) (p1 : Int32) (p2 : Int32) (S : sn_S) (Q : Prop) : Prop :=
  (∀ q10 : Option Nat, wpJ7_checkIndex w p1 p2 q10 (fun (r11 : Int32) => Q))
theorem wkJ5_checkIndex {w : sn_W} {C : sn_C} (hO : sn_Ok LoX w C RJ5 cJ5_checkIndex 2 none [] "checkIndex") (p1 : Int32) (p2 : Int32) (S : sn_S) (Q : Prop) : wpJ5_checkIndex w p1 p2 S Q → sn_G LoX w rmJ5_checkIndex (sn_qV (fun S1 => S1 = S ∧ Q)) sn_noE C 0 0 0 [(0, .int p1), (1, .int p2)] [] S := by
  unfold wpJ5_checkIndex
  generalize hQq : (sn_qV (fun S1 => S1 = S ∧ Q)) = Qq
  refine sn_iload_n hO 0 rfl dJ5_checkIndex_0 ?_
  refine sn_iload_n hO 1 rfl dJ5_checkIndex_1 ?_
  refine sn_getsQ hO zqX_1 q846 dJ5_checkIndex_2 (fun q10 => ?_)
  refine sn_callS hO (c2 := 0) (s2 := 0) (rm := rmJ7_checkIndex) [.int p1, .int p2, va_rf q10] csJ5_1059 (fun h => ctJ7_checkIndex h) ⟨Nat.le_of_ble_eq_true rfl, Nat.le_of_ble_eq_true rfl⟩ rfl rfl (Nat.le_of_ble_eq_true rfl) ⟨Nat.le_of_ble_eq_true rfl, Nat.le_of_ble_eq_true rfl, rfl, rfl⟩ dJ5_checkIndex_5 (sn_bIp (fun r11 => ?_)) sn_x0
  refine sn_pop hO rfl dJ5_checkIndex_8 ?_
  subst hQq
  exact fun h => sn_vret hO rfl dJ5_checkIndex_9 ⟨rfl, h⟩
theorem ctJ5_checkIndex {w : sn_W} {p1 : Int32} {p2 : Int32} {S : sn_S} {Q : Prop} (h : wpJ5_checkIndex w p1 p2 S Q) : sn_Ct LoX w yJ5_checkIndex (ws_ yJ5_checkIndex cJ5_checkIndex 2 none) rmJ5_checkIndex [.int p1, .int p2] S (sn_qV (fun S1 => S1 = S ∧ Q)) sn_noE := sn_Ct_of (XX_O w) (by decide) (Nat.le_of_ble_eq_true rfl) RJ5 rfl (fun C hO => wkJ5_checkIndex hO p1 p2 S Q h)
def rmJ6_charAt : Room := { frames := 2, cells := 0, slots := 0, locals := 43 }
/-- java/lang/StringLatin1.charAt([BI)C -/
def wpJ6_charAt (w : sn_W) (s1 : Nat) (p2 : Int32) (S : sn_S) (Q : Int32 → Prop) : Prop :=
  wpJ5_checkIndex w p2 (Int32.ofNat (skL.getD s1 0)) S ((vp_in p2 (skL.getD s1 0) ∧ (narrow .char (.int (UInt32.toInt32 (Int32.toUInt32 (((skB.getD s1 []).getD (p2).toNatClampNeg 0) &&& 255) % 65536))) = .int (UInt32.toInt32 (Int32.toUInt32 (((skB.getD s1 []).getD (p2).toNatClampNeg 0) &&& 255) % 65536)) ∧ Q (UInt32.toInt32 (Int32.toUInt32 (((skB.getD s1 []).getD (p2).toNatClampNeg 0) &&& 255) % 65536)))))
theorem wkJ6_charAt {w : sn_W} {C : sn_C} (hO : sn_Ok LoX w C RJ6 cJ6_charAt 2 (some .char) [] "charAt") (s1 : Nat) (p2 : Int32) (S : sn_S) (hs1 : s1 < 29) (Q : Int32 → Prop) : wpJ6_charAt w s1 p2 S Q → sn_G LoX w rmJ6_charAt (sn_qI (fun r S1 => S1 = S ∧ Q r)) sn_noE C 0 0 0 [(0, .ref (w.2.2.2.2.2.1 s1)), (1, .int p2)] [] S := by
  unfold wpJ6_charAt
  generalize hQq : (sn_qI (fun r S1 => S1 = S ∧ Q r)) = Qq
  refine sn_iload_n hO 1 rfl dJ6_charAt_0 ?_
  refine sn_aload_n hO 0 rfl dJ6_charAt_1 ?_
  refine sn_tlen hO (fun A U H h => tbX hs1 w A U H h) dJ6_charAt_2 ?_
  refine sn_callS hO (c2 := 0) (s2 := 0) (rm := rmJ5_checkIndex) [.int p2, .int (Int32.ofNat (skL.getD s1 0))] csJ6_9 (fun h => ctJ5_checkIndex h) ⟨Nat.le_of_ble_eq_true rfl, Nat.le_of_ble_eq_true rfl⟩ rfl rfl (Nat.le_of_ble_eq_true rfl) ⟨Nat.le_of_ble_eq_true rfl, Nat.le_of_ble_eq_true rfl, rfl, rfl⟩ dJ6_charAt_3 (sn_bVp ?_) sn_x0
  refine sn_aload_n hO 0 rfl dJ6_charAt_6 ?_
  refine sn_iload_n hO 1 rfl dJ6_charAt_7 ?_
  refine sn_tb (f := (fun j => (skB.getD s1 []).getD j 0)) hO (fun A U H h => tbX hs1 w A U H h) dJ6_charAt_8 ?_
  refine sn_sipush hO ks_255 dJ6_charAt_9 ?_
  refine sn_iand hO dJ6_charAt_12 ?_
  refine sn_i2c hO dJ6_charAt_13 ?_
  subst hQq
  exact fun h => sn_zretP hO rfl dJ6_charAt_14 ⟨h.1, rfl, h.2⟩
theorem ctJ6_charAt {w : sn_W} {s1 : Nat} {p2 : Int32} (hs1 : s1 < 29) {S : sn_S} {Q : Int32 → Prop} (h : wpJ6_charAt w s1 p2 S Q) : sn_Ct LoX w yJ6_charAt (ws_ yJ6_charAt cJ6_charAt 2 (some .char)) rmJ6_charAt [.ref (w.2.2.2.2.2.1 s1), .int p2] S (sn_qI (fun r S1 => S1 = S ∧ Q r)) sn_noE := sn_Ct_of (XX_O w) (by decide) (Nat.le_of_ble_eq_true rfl) RJ6 rfl (fun C hO => wkJ6_charAt hO s1 p2 S hs1 Q h)
def rmJ5_charAt : Room := { frames := 3, cells := 0, slots := 0, locals := 64 }
/-- java/lang/String.charAt(I)C -/
def wpJ5_charAt (w : sn_W) (s0 : Nat) (p1 : Int32) (S : sn_S) (Q : Int32 → Prop) : Prop :=
  wpJ5_isLatin1 w s0 S (fun (r10 : Int32) => ((r10 = 0 → False) ∧ (¬ r10 = 0 → wpJ6_charAt w s0 p1 S (fun (r11 : Int32) => (narrow .char (.int r11) = .int r11 ∧ Q r11)))))
theorem wkJ5_charAt {w : sn_W} {C : sn_C} (hO : sn_Ok LoX w C RJ5 cJ5_charAt 2 (some .char) [] "charAt") (s0 : Nat) (p1 : Int32) (S : sn_S) (hs0 : s0 < 29) (Q : Int32 → Prop) : wpJ5_charAt w s0 p1 S Q → sn_G LoX w rmJ5_charAt (sn_qI (fun r S1 => S1 = S ∧ Q r)) sn_noE C 0 0 0 [(0, .ref (w.2.2.2.2.1 s0)), (1, .int p1)] [] S := by
  unfold wpJ5_charAt
  generalize hQq : (sn_qI (fun r S1 => S1 = S ∧ Q r)) = Qq
  refine sn_aload_n hO 0 rfl dJ5_charAt_0 ?_
  refine sn_callT hO (c2 := 0) (s2 := 0) (rm := rmJ5_isLatin1) [] (toX hs0) ctJ5_492 (fun h => ctJ5_isLatin1 hs0 h) ⟨Nat.le_of_ble_eq_true rfl, Nat.le_of_ble_eq_true rfl⟩ rfl rfl (Nat.le_of_ble_eq_true rfl) ⟨Nat.le_of_ble_eq_true rfl, Nat.le_of_ble_eq_true rfl, rfl, rfl⟩ dJ5_charAt_1 (sn_bIp (fun r10 => ?_)) sn_x0
  refine sn_if_eq hO 16 (by decide) dJ5_charAt_4 ?_ ?_
  · exact sn_no (fun h => h)
  · refine sn_aload_n hO 0 rfl dJ5_charAt_7 ?_
    refine sn_tget hO (fun A U H h => tvX hs0 w A U H h) q2107 dJ5_charAt_8 ?_
    refine sn_iload_n hO 1 rfl dJ5_charAt_11 ?_
    refine sn_callS hO (c2 := 0) (s2 := 0) (rm := rmJ6_charAt) [.ref (w.2.2.2.2.2.1 s0), .int p1] csJ5_495 (fun h => ctJ6_charAt hs0 h) ⟨Nat.le_of_ble_eq_true rfl, Nat.le_of_ble_eq_true rfl⟩ rfl rfl (Nat.le_of_ble_eq_true rfl) ⟨Nat.le_of_ble_eq_true rfl, Nat.le_of_ble_eq_true rfl, rfl, rfl⟩ dJ5_charAt_12 (sn_bIp (fun r11 => ?_)) sn_x0
    subst hQq
    exact fun h => sn_zretP hO rfl dJ5_charAt_15 ⟨h.1, rfl, h.2⟩
theorem ctJ5_charAt {w : sn_W} {s0 : Nat} {p1 : Int32} (hs0 : s0 < 29) {S : sn_S} {Q : Int32 → Prop} (h : wpJ5_charAt w s0 p1 S Q) : sn_Ct LoX w yJ5_charAt (ws_ yJ5_charAt cJ5_charAt 2 (some .char)) rmJ5_charAt [.ref (w.2.2.2.2.1 s0), .int p1] S (sn_qI (fun r S1 => S1 = S ∧ Q r)) sn_noE := sn_Ct_of (XX_O w) (by decide) (Nat.le_of_ble_eq_true rfl) RJ5 rfl (fun C hO => wkJ5_charAt hO s0 p1 S hs0 Q h)
def rmX10_is : Room := { frames := 4, cells := 0, slots := 0, locals := 85 }
/-- SnailPost$Reader.is(Ljava/lang/String;)Z -/
def wpX10_is (w : sn_W) (a0 : Nat) (s1 : Nat) (S : sn_S) (Q : Int32 → Prop) : Prop :=
  (sn_gI S a0 10 4 (fun x10 => (sn_gI S a0 10 3 (fun x11 => wpJ5_length w s1 S (fun (r12 : Int32) => (((x10 - x11) = r12 → sn_lp1 (fun (rc14 : Int32 → Prop) (i13 : Int32) => wpJ5_length w s1 S (fun (r15 : Int32) => ((r15 ≤ i13 → Q 1) ∧ (¬ r15 ≤ i13 → (sn_gK w S a0 10 0 11 ((sn_gI S a0 10 3 (fun x16 => (vp_in (x16 + i13) 400 ∧ wpJ5_charAt w s1 i13 S (fun (r17 : Int32) => (((S.1 11 ((x16 + i13)).toNatClampNeg) = r17 → rc14 (i13 + 1)) ∧ (¬ (S.1 11 ((x16 + i13)).toNatClampNeg) = r17 → Q 0)))))))))))) 0) ∧ (¬ (x10 - x11) = r12 → Q 0)))))))
theorem wkX10_is {w : sn_W} {C : sn_C} (hO : sn_Ok LoX w C RX10 cX10_is 3 (some .boolean) [] "is") (a0 : Nat) (s1 : Nat) (S : sn_S) (hs1 : s1 < 29) (Q : Int32 → Prop) : wpX10_is w a0 s1 S Q → sn_G LoX w rmX10_is (sn_qI (fun r S1 => S1 = S ∧ Q r)) sn_noE C 0 0 0 [(0, .ref a0), (1, .ref (w.2.2.2.2.1 s1))] [] S := by
  unfold wpX10_is
  generalize hQq : (sn_qI (fun r S1 => S1 = S ∧ Q r)) = Qq
  refine sn_aload_n hO 0 rfl dX10_is_0 ?_
  refine sn_ogetI hO fX10_28 dX10_is_1 (fun x10 => ?_)
  refine sn_aload_n hO 0 rfl dX10_is_4 ?_
  refine sn_ogetI hO fX10_31 dX10_is_5 (fun x11 => ?_)
  refine sn_isub hO dX10_is_8 ?_
  refine sn_aload_n hO 1 rfl dX10_is_9 ?_
  refine sn_callT hO (c2 := 0) (s2 := 0) (rm := rmJ5_length) [] (toX hs1) ctX10_38 (fun h => ctJ5_length hs1 h) ⟨Nat.le_of_ble_eq_true rfl, Nat.le_of_ble_eq_true rfl⟩ rfl rfl (Nat.le_of_ble_eq_true rfl) ⟨Nat.le_of_ble_eq_true rfl, Nat.le_of_ble_eq_true rfl, rfl, rfl⟩ dX10_is_10 (sn_bIp (fun r12 => ?_)) sn_x0
  refine sn_icmp_eq hO 18 (by decide) dX10_is_13 ?_ ?_
  · refine sn_iconst hO kc_0 dX10_is_18 ?_
    refine sn_istore_n hO (lv' := [(2, .int 0), (0, .ref a0), (1, .ref (w.2.2.2.2.1 s1))]) (by decide) rfl dX10_is_19 ?_
    refine sn_sub [1, 2, 0] rfl ?_
    refine sn_lp1_walk (Gd := fun (i13 : Int32) => sn_G LoX w rmX10_is Qq sn_noE C 0 0 20 [(0, .ref a0), (1, .ref (w.2.2.2.2.1 s1)), (2, .int i13)] [] S) ?_ _
    intro rc14 hrc14 i13
    refine sn_iload_n hO 2 rfl dX10_is_20 ?_
    refine sn_aload_n hO 1 rfl dX10_is_21 ?_
    refine sn_callT hO (c2 := 0) (s2 := 0) (rm := rmJ5_length) [] (toX hs1) ctX10_38 (fun h => ctJ5_length hs1 h) ⟨Nat.le_of_ble_eq_true rfl, Nat.le_of_ble_eq_true rfl⟩ rfl rfl (Nat.le_of_ble_eq_true rfl) ⟨Nat.le_of_ble_eq_true rfl, Nat.le_of_ble_eq_true rfl, rfl, rfl⟩ dX10_is_22 (sn_bIp (fun r15 => ?_)) sn_x0
    refine sn_icmp_ge hO 55 (by decide) dX10_is_25 ?_ ?_
    · refine sn_iconst hO kc_1 dX10_is_55 ?_
      subst hQq
      exact fun h => sn_zret hO (ty := .boolean) rfl rfl dX10_is_56 ⟨rfl, h⟩
    · refine sn_aload_n hO 0 rfl dX10_is_28 ?_
      refine sn_ogetK hO fX10_20 dX10_is_29 ?_
      refine sn_aload_n hO 0 rfl dX10_is_32 ?_
      refine sn_ogetI hO fX10_31 dX10_is_33 (fun x16 => ?_)
      refine sn_iload_n hO 2 rfl dX10_is_36 ?_
      refine sn_iadd hO dX10_is_37 ?_
      refine sn_bald hO atX_11 rfl dX10_is_38 ?_
      refine sn_aload_n hO 1 rfl dX10_is_39 ?_
      refine sn_iload_n hO 2 rfl dX10_is_40 ?_
      refine sn_callT hO (c2 := 0) (s2 := 0) (rm := rmJ5_charAt) [.int i13] (toX hs1) ctX10_44 (fun h => ctJ5_charAt hs1 h) ⟨Nat.le_of_ble_eq_true rfl, Nat.le_of_ble_eq_true rfl⟩ rfl rfl (Nat.le_of_ble_eq_true rfl) ⟨Nat.le_of_ble_eq_true rfl, Nat.le_of_ble_eq_true rfl, rfl, rfl⟩ dX10_is_41 (sn_bIp (fun r17 => ?_)) sn_x0
      refine sn_icmp_eq hO 49 (by decide) dX10_is_44 ?_ ?_
      · refine sn_iinc hO (lv' := [(2, .int (i13 + 1)), (0, .ref a0), (1, .ref (w.2.2.2.2.1 s1))]) 2 rfl ki_1 (by decide) rfl dX10_is_49 ?_
        refine sn_goto hO 20 (by decide) dX10_is_52 ?_
        refine sn_sub [1, 2, 0] rfl ?_
        exact hrc14 _
      · refine sn_iconst hO kc_0 dX10_is_47 ?_
        subst hQq
        exact fun h => sn_zret hO (ty := .boolean) rfl rfl dX10_is_48 ⟨rfl, h⟩
  · refine sn_iconst hO kc_0 dX10_is_16 ?_
    subst hQq
    exact fun h => sn_zret hO (ty := .boolean) rfl rfl dX10_is_17 ⟨rfl, h⟩
theorem ctX10_is {w : sn_W} {a0 : Nat} {s1 : Nat} (hs1 : s1 < 29) {S : sn_S} {Q : Int32 → Prop} (h : wpX10_is w a0 s1 S Q) : sn_Ct LoX w yX10_is (ws_ yX10_is cX10_is 3 (some .boolean)) rmX10_is [.ref a0, .ref (w.2.2.2.2.1 s1)] S (sn_qI (fun r S1 => S1 = S ∧ Q r)) sn_noE := sn_Ct_of (XX_O w) (by decide) (Nat.le_of_ble_eq_true rfl) RX10 rfl (fun C hO => wkX10_is hO a0 s1 S hs1 Q h)
def rmJ3_init_2_3 : Room := { frames := 1, cells := 0, slots := 0, locals := 64 }
/-- java/lang/Throwable.<init>(Ljava/lang/String;Ljava/lang/Throwable;ZZ)V -/
def wpJ3_init_2_3 (w : sn_W) (a0 : Nat) (p3 : Int32) (p4 : Int32) (S : sn_S) (Q : sn_S → Prop) : Prop :=
  (sn_sV S a0 3 0 (.ref a0) (fun S10 => (∀ q11 : Option Nat, ((narrow (tyX3 1) (va_rf q11) = (va_rf q11) ∧ fits (tyX3 1) (va_rf q11) = true) ∧ (sn_sV S10 a0 3 1 (va_rf q11) (fun S12 => (∀ q13 : Option Nat, ((narrow (tyX3 2) (va_rf q13) = (va_rf q13) ∧ fits (tyX3 2) (va_rf q13) = true) ∧ (sn_sV S12 a0 3 2 (va_rf q13) (fun S14 => ((p4 = 0 → (sn_sV S14 a0 3 1 (.null) (fun S15 => (sn_sV S15 a0 3 3 (.null) (fun S16 => (sn_sV S16 a0 3 0 (.null) (fun S17 => ((¬ p3 = 0 → Q S17) ∧ (p3 = 0 → (sn_sV S17 a0 3 2 (.null) (fun S18 => Q S18))))))))))) ∧ (¬ p4 = 0 → False))))))))))))
theorem wkJ3_init_2_3 {w : sn_W} {C : sn_C} {n : Nat} (hO : sn_Ok (LoN n) w C RJ3 cJ3_init_2 5 none [] "<init>") (a0 : Nat) (p3 : Int32) (p4 : Int32) (S : sn_S) (Q : sn_S → Prop) : wpJ3_init_2_3 w a0 p3 p4 S Q → sn_G (LoN n) w rmJ3_init_2_3 (sn_qV Q) sn_noE C 0 0 0 [(0, .ref a0), (1, .null), (2, .null), (3, .int p3), (4, .int p4)] [] S := by
  unfold wpJ3_init_2_3
  generalize hQq : (sn_qV Q) = Qq
  refine sn_aload_n hO 0 rfl dJ3_init_2_0 ?_
  refine sn_objInit hO q275 q146 q147 ⟨Nat.le_of_ble_eq_true rfl, Nat.le_of_ble_eq_true rfl⟩ dJ3_init_2_1 ?_
  refine sn_aload_n hO 0 rfl dJ3_init_2_4 ?_
  refine sn_aload_n hO 0 rfl dJ3_init_2_5 ?_
  refine sn_oput hO fJ3_7_3 rfl rfl dJ3_init_2_6 (fun S10 => ?_)
  refine sn_aload_n hO 0 rfl dJ3_init_2_9 ?_
  refine sn_getsQ hO zqX_2 q276 dJ3_init_2_10 (fun q11 => ?_)
  refine sn_oputP hO fJ3_17_3 dJ3_init_2_13 (fun S12 => ?_)
  refine sn_aload_n hO 0 rfl dJ3_init_2_16 ?_
  refine sn_getsQ hO zqX_3 q278 dJ3_init_2_17 (fun q13 => ?_)
  refine sn_oputP hO fJ3_24_3 dJ3_init_2_20 (fun S14 => ?_)
  refine sn_iload hO 4 rfl dJ3_init_2_23 ?_
  refine sn_if_eq hO 36 (by decide) dJ3_init_2_25 ?_ ?_
  · refine sn_aload_n hO 0 rfl dJ3_init_2_36 ?_
    refine sn_null hO dJ3_init_2_37 ?_
    refine sn_oput hO fJ3_17_3 rfl rfl dJ3_init_2_38 (fun S15 => ?_)
    refine sn_aload_n hO 0 rfl dJ3_init_2_41 ?_
    refine sn_aload_nQ (r := none) hO 1 rfl dJ3_init_2_42 ?_
    refine sn_oput hO fJ3_31_3 rfl rfl dJ3_init_2_43 (fun S16 => ?_)
    refine sn_aload_n hO 0 rfl dJ3_init_2_46 ?_
    refine sn_aload_nQ (r := none) hO 2 rfl dJ3_init_2_47 ?_
    refine sn_oput hO fJ3_7_3 rfl rfl dJ3_init_2_48 (fun S17 => ?_)
    refine sn_iload_n hO 3 rfl dJ3_init_2_51 ?_
    refine sn_if_ne hO 60 (by decide) dJ3_init_2_52 ?_ ?_
    · subst hQq
      exact sn_vret hO rfl dJ3_init_2_60
    · refine sn_aload_n hO 0 rfl dJ3_init_2_55 ?_
      refine sn_null hO dJ3_init_2_56 ?_
      refine sn_oput hO fJ3_24_3 rfl rfl dJ3_init_2_57 (fun S18 => ?_)
      subst hQq
      exact sn_vret hO rfl dJ3_init_2_60
  · exact sn_no (fun h => h)
theorem ctJ3_init_2_3 {w : sn_W} {n : Nat} {a0 : Nat} {p3 : Int32} {p4 : Int32} {S : sn_S} {Q : sn_S → Prop} (h : wpJ3_init_2_3 w a0 p3 p4 S Q) : sn_Ct (LoN n) w yJ3_init_2 (ws_ yJ3_init_2 cJ3_init_2 5 none) rmJ3_init_2_3 [.ref a0, .null, .null, .int p3, .int p4] S (sn_qV Q) sn_noE := sn_Ct_of (XX_O w) (by decide) (Nat.le_of_ble_eq_true rfl) RJ3 rfl (fun C hO => wkJ3_init_2_3 hO a0 p3 p4 S Q h)
def rmJ3_init_2_11 : Room := { frames := 1, cells := 0, slots := 0, locals := 64 }
/-- java/lang/Throwable.<init>(Ljava/lang/String;Ljava/lang/Throwable;ZZ)V -/
def wpJ3_init_2_11 (w : sn_W) (a0 : Nat) (p3 : Int32) (p4 : Int32) (S : sn_S) (Q : sn_S → Prop) : Prop :=
  (sn_sV S a0 11 0 (.ref a0) (fun S10 => (∀ q11 : Option Nat, ((narrow (tyX11 1) (va_rf q11) = (va_rf q11) ∧ fits (tyX11 1) (va_rf q11) = true) ∧ (sn_sV S10 a0 11 1 (va_rf q11) (fun S12 => (∀ q13 : Option Nat, ((narrow (tyX11 2) (va_rf q13) = (va_rf q13) ∧ fits (tyX11 2) (va_rf q13) = true) ∧ (sn_sV S12 a0 11 2 (va_rf q13) (fun S14 => ((p4 = 0 → (sn_sV S14 a0 11 1 (.null) (fun S15 => (sn_sV S15 a0 11 3 (.null) (fun S16 => (sn_sV S16 a0 11 0 (.null) (fun S17 => ((¬ p3 = 0 → Q S17) ∧ (p3 = 0 → (sn_sV S17 a0 11 2 (.null) (fun S18 => Q S18))))))))))) ∧ (¬ p4 = 0 → False))))))))))))
theorem wkJ3_init_2_11 {w : sn_W} {C : sn_C} {n : Nat} (hO : sn_Ok (LoN n) w C RJ3 cJ3_init_2 5 none [] "<init>") (a0 : Nat) (p3 : Int32) (p4 : Int32) (S : sn_S) (Q : sn_S → Prop) : wpJ3_init_2_11 w a0 p3 p4 S Q → sn_G (LoN n) w rmJ3_init_2_11 (sn_qV Q) sn_noE C 0 0 0 [(0, .ref a0), (1, .null), (2, .null), (3, .int p3), (4, .int p4)] [] S := by
  unfold wpJ3_init_2_11
  generalize hQq : (sn_qV Q) = Qq
  refine sn_aload_n hO 0 rfl dJ3_init_2_0 ?_
  refine sn_objInit hO q275 q146 q147 ⟨Nat.le_of_ble_eq_true rfl, Nat.le_of_ble_eq_true rfl⟩ dJ3_init_2_1 ?_
  refine sn_aload_n hO 0 rfl dJ3_init_2_4 ?_
  refine sn_aload_n hO 0 rfl dJ3_init_2_5 ?_
  refine sn_oput hO fJ3_7_11 rfl rfl dJ3_init_2_6 (fun S10 => ?_)
  refine sn_aload_n hO 0 rfl dJ3_init_2_9 ?_
  refine sn_getsQ hO zqX_2 q276 dJ3_init_2_10 (fun q11 => ?_)
  refine sn_oputP hO fJ3_17_11 dJ3_init_2_13 (fun S12 => ?_)
  refine sn_aload_n hO 0 rfl dJ3_init_2_16 ?_
  refine sn_getsQ hO zqX_3 q278 dJ3_init_2_17 (fun q13 => ?_)
  refine sn_oputP hO fJ3_24_11 dJ3_init_2_20 (fun S14 => ?_)
  refine sn_iload hO 4 rfl dJ3_init_2_23 ?_
  refine sn_if_eq hO 36 (by decide) dJ3_init_2_25 ?_ ?_
  · refine sn_aload_n hO 0 rfl dJ3_init_2_36 ?_
    refine sn_null hO dJ3_init_2_37 ?_
    refine sn_oput hO fJ3_17_11 rfl rfl dJ3_init_2_38 (fun S15 => ?_)
    refine sn_aload_n hO 0 rfl dJ3_init_2_41 ?_
    refine sn_aload_nQ (r := none) hO 1 rfl dJ3_init_2_42 ?_
    refine sn_oput hO fJ3_31_11 rfl rfl dJ3_init_2_43 (fun S16 => ?_)
    refine sn_aload_n hO 0 rfl dJ3_init_2_46 ?_
    refine sn_aload_nQ (r := none) hO 2 rfl dJ3_init_2_47 ?_
    refine sn_oput hO fJ3_7_11 rfl rfl dJ3_init_2_48 (fun S17 => ?_)
    refine sn_iload_n hO 3 rfl dJ3_init_2_51 ?_
    refine sn_if_ne hO 60 (by decide) dJ3_init_2_52 ?_ ?_
    · subst hQq
      exact sn_vret hO rfl dJ3_init_2_60
    · refine sn_aload_n hO 0 rfl dJ3_init_2_55 ?_
      refine sn_null hO dJ3_init_2_56 ?_
      refine sn_oput hO fJ3_24_11 rfl rfl dJ3_init_2_57 (fun S18 => ?_)
      subst hQq
      exact sn_vret hO rfl dJ3_init_2_60
  · exact sn_no (fun h => h)
theorem ctJ3_init_2_11 {w : sn_W} {n : Nat} {a0 : Nat} {p3 : Int32} {p4 : Int32} {S : sn_S} {Q : sn_S → Prop} (h : wpJ3_init_2_11 w a0 p3 p4 S Q) : sn_Ct (LoN n) w yJ3_init_2 (ws_ yJ3_init_2 cJ3_init_2 5 none) rmJ3_init_2_11 [.ref a0, .null, .null, .int p3, .int p4] S (sn_qV Q) sn_noE := sn_Ct_of (XX_O w) (by decide) (Nat.le_of_ble_eq_true rfl) RJ3 rfl (fun C hO => wkJ3_init_2_11 hO a0 p3 p4 S Q h)
def rmJ4_init_3 : Room := { frames := 2, cells := 0, slots := 0, locals := 88 }
/-- java/lang/Exception.<init>(Ljava/lang/String;Ljava/lang/Throwable;ZZ)V -/
def wpJ4_init_3 (w : sn_W) (a0 : Nat) (p3 : Int32) (p4 : Int32) (S : sn_S) (Q : sn_S → Prop) : Prop :=
  wpJ3_init_2_3 w a0 p3 p4 S (fun (S10 : sn_S) => Q S10)
theorem wkJ4_init_3 {w : sn_W} {C : sn_C} {n : Nat} (hO : sn_Ok (LoN n) w C RJ4 cJ4_init 5 none [] "<init>") (a0 : Nat) (p3 : Int32) (p4 : Int32) (S : sn_S) (Q : sn_S → Prop) : wpJ4_init_3 w a0 p3 p4 S Q → sn_G (LoN n) w rmJ4_init_3 (sn_qV Q) sn_noE C 0 0 0 [(0, .ref a0), (1, .null), (2, .null), (3, .int p3), (4, .int p4)] [] S := by
  unfold wpJ4_init_3
  generalize hQq : (sn_qV Q) = Qq
  refine sn_aload_n hO 0 rfl dJ4_init_0 ?_
  refine sn_aload_nQ (r := none) hO 1 rfl dJ4_init_1 ?_
  refine sn_aload_nQ (r := none) hO 2 rfl dJ4_init_2 ?_
  refine sn_iload_n hO 3 rfl dJ4_init_3 ?_
  refine sn_iload hO 4 rfl dJ4_init_4 ?_
  refine sn_callI (rY := none) hO (c2 := 0) (s2 := 0) (rm := rmJ3_init_2_3) [.null, .null, .int p3, .int p4] ciJ4_16 (fun h => ctJ3_init_2_3 h) ⟨Nat.le_of_ble_eq_true rfl, Nat.le_of_ble_eq_true rfl⟩ rfl rfl (Nat.le_of_ble_eq_true rfl) ⟨Nat.le_of_ble_eq_true rfl, Nat.le_of_ble_eq_true rfl, rfl, rfl⟩ dJ4_init_6 (sn_bV (fun S10 => ?_)) sn_x0
  subst hQq
  exact sn_vret hO rfl dJ4_init_9
theorem ctJ4_init_3 {w : sn_W} {n : Nat} {a0 : Nat} {p3 : Int32} {p4 : Int32} {S : sn_S} {Q : sn_S → Prop} (h : wpJ4_init_3 w a0 p3 p4 S Q) : sn_Ct (LoN n) w yJ4_init (ws_ yJ4_init cJ4_init 5 none) rmJ4_init_3 [.ref a0, .null, .null, .int p3, .int p4] S (sn_qV Q) sn_noE := sn_Ct_of (XX_O w) (by decide) (Nat.le_of_ble_eq_true rfl) RJ4 rfl (fun C hO => wkJ4_init_3 hO a0 p3 p4 S Q h)
def rmJ4_init_11 : Room := { frames := 2, cells := 0, slots := 0, locals := 88 }
/-- java/lang/Exception.<init>(Ljava/lang/String;Ljava/lang/Throwable;ZZ)V -/
def wpJ4_init_11 (w : sn_W) (a0 : Nat) (p3 : Int32) (p4 : Int32) (S : sn_S) (Q : sn_S → Prop) : Prop :=
  wpJ3_init_2_11 w a0 p3 p4 S (fun (S10 : sn_S) => Q S10)
theorem wkJ4_init_11 {w : sn_W} {C : sn_C} {n : Nat} (hO : sn_Ok (LoN n) w C RJ4 cJ4_init 5 none [] "<init>") (a0 : Nat) (p3 : Int32) (p4 : Int32) (S : sn_S) (Q : sn_S → Prop) : wpJ4_init_11 w a0 p3 p4 S Q → sn_G (LoN n) w rmJ4_init_11 (sn_qV Q) sn_noE C 0 0 0 [(0, .ref a0), (1, .null), (2, .null), (3, .int p3), (4, .int p4)] [] S := by
  unfold wpJ4_init_11
  generalize hQq : (sn_qV Q) = Qq
  refine sn_aload_n hO 0 rfl dJ4_init_0 ?_
  refine sn_aload_nQ (r := none) hO 1 rfl dJ4_init_1 ?_
  refine sn_aload_nQ (r := none) hO 2 rfl dJ4_init_2 ?_
  refine sn_iload_n hO 3 rfl dJ4_init_3 ?_
  refine sn_iload hO 4 rfl dJ4_init_4 ?_
  refine sn_callI (rY := none) hO (c2 := 0) (s2 := 0) (rm := rmJ3_init_2_11) [.null, .null, .int p3, .int p4] ciJ4_16 (fun h => ctJ3_init_2_11 h) ⟨Nat.le_of_ble_eq_true rfl, Nat.le_of_ble_eq_true rfl⟩ rfl rfl (Nat.le_of_ble_eq_true rfl) ⟨Nat.le_of_ble_eq_true rfl, Nat.le_of_ble_eq_true rfl, rfl, rfl⟩ dJ4_init_6 (sn_bV (fun S10 => ?_)) sn_x0
  subst hQq
  exact sn_vret hO rfl dJ4_init_9
theorem ctJ4_init_11 {w : sn_W} {n : Nat} {a0 : Nat} {p3 : Int32} {p4 : Int32} {S : sn_S} {Q : sn_S → Prop} (h : wpJ4_init_11 w a0 p3 p4 S Q) : sn_Ct (LoN n) w yJ4_init (ws_ yJ4_init cJ4_init 5 none) rmJ4_init_11 [.ref a0, .null, .null, .int p3, .int p4] S (sn_qV Q) sn_noE := sn_Ct_of (XX_O w) (by decide) (Nat.le_of_ble_eq_true rfl) RJ4 rfl (fun C hO => wkJ4_init_11 hO a0 p3 p4 S Q h)
def rmX11_init : Room := { frames := 3, cells := 0, slots := 0, locals := 112 }
/-- SnailPost$Fault.<init>(I)V -/
def wpX11_init (w : sn_W) (a0 : Nat) (p1 : Int32) (S : sn_S) (Q : sn_S → Prop) : Prop :=
  wpJ4_init_11 w a0 0 0 S (fun (S10 : sn_S) => (sn_sV S10 a0 11 6 (.int p1) (fun S11 => Q S11)))
theorem wkX11_init {w : sn_W} {C : sn_C} {n : Nat} (hO : sn_Ok (LoN n) w C RX11 cX11_init 2 none [] "<init>") (a0 : Nat) (p1 : Int32) (S : sn_S) (Q : sn_S → Prop) : wpX11_init w a0 p1 S Q → sn_G (LoN n) w rmX11_init (sn_qV Q) sn_noE C 0 0 0 [(0, .ref a0), (1, .int p1)] [] S := by
  unfold wpX11_init
  generalize hQq : (sn_qV Q) = Qq
  refine sn_aload_n hO 0 rfl dX11_init_0 ?_
  refine sn_null hO dX11_init_1 ?_
  refine sn_null hO dX11_init_2 ?_
  refine sn_iconst hO kc_0 dX11_init_3 ?_
  refine sn_iconst hO kc_0 dX11_init_4 ?_
  refine sn_callI (rY := none) hO (c2 := 0) (s2 := 0) (rm := rmJ4_init_11) [.null, .null, .int 0, .int 0] ciX11_1 (fun h => ctJ4_init_11 h) ⟨Nat.le_of_ble_eq_true rfl, Nat.le_of_ble_eq_true rfl⟩ rfl rfl (Nat.le_of_ble_eq_true rfl) ⟨Nat.le_of_ble_eq_true rfl, Nat.le_of_ble_eq_true rfl, rfl, rfl⟩ dX11_init_5 (sn_bV (fun S10 => ?_)) sn_x0
  refine sn_aload_n hO 0 rfl dX11_init_8 ?_
  refine sn_iload_n hO 1 rfl dX11_init_9 ?_
  refine sn_oputF hO fX11_7 (fun _ _ _ h => by cases h; rfl) rfl rfl dX11_init_10 (fun S11 => ?_)
  subst hQq
  exact sn_vret hO rfl dX11_init_13
theorem ctX11_init {w : sn_W} {n : Nat} {a0 : Nat} {p1 : Int32} {S : sn_S} {Q : sn_S → Prop} (h : wpX11_init w a0 p1 S Q) : sn_Ct (LoN n) w yX11_init (ws_ yX11_init cX11_init 2 none) rmX11_init [.ref a0, .int p1] S (sn_qV Q) sn_noE := sn_Ct_of (XX_O w) (by decide) (Nat.le_of_ble_eq_true rfl) RX11 rfl (fun C hO => wkX11_init hO a0 p1 S Q h)
def rmX12_init : Room := { frames := 1, cells := 0, slots := 0, locals := 64 }
/-- SnailPost$Clause.<init>(I)V -/
def wpX12_init (w : sn_W) (a0 : Nat) (p1 : Int32) (S : sn_S) (Q : sn_S → Prop) : Prop :=
  (sn_sV S a0 12 0 (.int p1) (fun S10 => Q S10))
theorem wkX12_init {w : sn_W} {C : sn_C} (hO : sn_Ok LoX w C RX12 cX12_init 2 none [] "<init>") (a0 : Nat) (p1 : Int32) (S : sn_S) (Q : sn_S → Prop) : wpX12_init w a0 p1 S Q → sn_G LoX w rmX12_init (sn_qV Q) sn_noE C 0 0 0 [(0, .ref a0), (1, .int p1)] [] S := by
  unfold wpX12_init
  generalize hQq : (sn_qV Q) = Qq
  refine sn_aload_n hO 0 rfl dX12_init_0 ?_
  refine sn_objInit hO q897 q146 q147 ⟨Nat.le_of_ble_eq_true rfl, Nat.le_of_ble_eq_true rfl⟩ dX12_init_1 ?_
  refine sn_aload_n hO 0 rfl dX12_init_4 ?_
  refine sn_iload_n hO 1 rfl dX12_init_5 ?_
  refine sn_oputF hO fX12_9 (fun _ _ _ h => by cases h; rfl) rfl rfl dX12_init_6 (fun S10 => ?_)
  subst hQq
  exact sn_vret hO rfl dX12_init_9
theorem ctX12_init {w : sn_W} {a0 : Nat} {p1 : Int32} {S : sn_S} {Q : sn_S → Prop} (h : wpX12_init w a0 p1 S Q) : sn_Ct LoX w yX12_init (ws_ yX12_init cX12_init 2 none) rmX12_init [.ref a0, .int p1] S (sn_qV Q) sn_noE := sn_Ct_of (XX_O w) (by decide) (Nat.le_of_ble_eq_true rfl) RX12 rfl (fun C hO => wkX12_init hO a0 p1 S Q h)
def rmX10_opens (mc ms : Nat) : Room := { frames := 4, cells := mc, slots := ms, locals := 133 }
/-- SnailPost$Reader.opens()V -/
def wpX10_opens (w : sn_W) (a0 : Nat) (S : sn_S) (mc : Nat) (ms : Nat) (E : sn_E) (Q : sn_S → Prop) : Prop :=
  (sn_gI S a0 10 6 (fun x10 => ((¬ x10 = 8 → (sn_gI S a0 10 6 (fun x11 => (sn_sV S a0 10 6 (.int (x11 + 1)) (fun S12 => ((∃ fs, sn_oO S12 a0 10 fs) ∧ wpX10_next w a0 S12 (fun (S13 : sn_S) => Q S13))))))) ∧ (x10 = 8 → (sn_nw S mc ms 7 (.inr (11, [.null, .null, .null, .null, .null, .int 0, .int 0])) (fun a14 S15 => (sn_gI S15 a0 10 3 (fun x16 => wpX11_init w a14 x16 S15 (fun (S17 : sn_S) => ((∃ fs, sn_oO S17 a14 11 fs) ∧ E "SnailPost$Fault" a14 S17))))))))))
theorem wkX10_opens {w : sn_W} {C : sn_C} (hO : sn_Ok LoX w C RX10 cX10_opens 1 none [] "opens") (a0 : Nat) (S : sn_S) (mc : Nat) (ms : Nat) (E : sn_E) (Q : sn_S → Prop) : wpX10_opens w a0 S mc ms E Q → sn_G LoX w (rmX10_opens mc ms) (sn_qV Q) E C mc ms 0 [(0, .ref a0)] [] S := by
  unfold wpX10_opens
  generalize hQq : (sn_qV Q) = Qq
  refine sn_aload_n hO 0 rfl dX10_opens_0 ?_
  refine sn_ogetI hO fX10_116 dX10_opens_1 (fun x10 => ?_)
  refine sn_bipush hO kb_8 dX10_opens_4 ?_
  refine sn_icmp_ne hO 21 (by decide) dX10_opens_6 ?_ ?_
  · refine sn_aload_n hO 0 rfl dX10_opens_21 ?_
    refine sn_dup hO rfl dX10_opens_22 ?_
    refine sn_ogetI hO fX10_116 dX10_opens_23 (fun x11 => ?_)
    refine sn_iconst hO kc_1 dX10_opens_26 ?_
    refine sn_iadd hO dX10_opens_27 ?_
    refine sn_oput hO fX10_116 rfl rfl dX10_opens_28 (fun S12 => ?_)
    refine sn_aload_n hO 0 rfl dX10_opens_31 ?_
    refine sn_callV (P := (∃ fs, sn_oO S12 a0 10 fs) ∧ _) hO (c2 := mc) (s2 := ms) (rm := rmX10_next) [] cvX10_52 sn_RvP (fun h => ctX10_next h.2) ⟨Nat.le_of_ble_eq_true rfl, Nat.le_of_ble_eq_true rfl⟩ rfl rfl (Nat.le_of_ble_eq_true rfl) ⟨Nat.zero_le _, Nat.zero_le _, rfl, rfl⟩ dX10_opens_32 (sn_bV (fun S13 => ?_)) sn_x0
    subst hQq
    exact sn_vret hO rfl dX10_opens_35
  · refine sn_new (fs := [.null, .null, .null, .null, .null, .int 0, .int 0]) hO tyX11 in_X11 tyX11_ok q873 q874 q123 rfl nfX_11 dX10_opens_9 (fun a14 S15 => ?_)
    refine sn_dup hO rfl dX10_opens_12 ?_
    refine sn_aload_n hO 0 rfl dX10_opens_13 ?_
    refine sn_ogetI hO fX10_31 dX10_opens_14 (fun x16 => ?_)
    refine sn_callI (rY := none) hO (c2 := (mc - 1)) (s2 := (ms - 7)) (rm := rmX11_init) [.int x16] ciX10_60 (fun h => ctX11_init h) ⟨Nat.le_of_ble_eq_true rfl, Nat.le_of_ble_eq_true rfl⟩ rfl rfl (Nat.le_of_ble_eq_true rfl) ⟨Nat.zero_le _, Nat.zero_le _, rfl, rfl⟩ dX10_opens_17 (sn_bV (fun S17 => ?_)) sn_x0
    exact sn_athrowA (ci := 11) hO rfl dX10_opens_20 (sn_xout hO)
theorem ctX10_opens {w : sn_W} {a0 : Nat} {S : sn_S} {mc : Nat} {ms : Nat} {E : sn_E} {Q : sn_S → Prop} (h : wpX10_opens w a0 S mc ms E Q) : sn_Ct LoX w yX10_opens (ws_ yX10_opens cX10_opens 1 none) (rmX10_opens mc ms) [.ref a0] S (sn_qV Q) E := sn_Ct_of (XX_O w) (by decide) (Nat.le_of_ble_eq_true rfl) RX10 rfl (fun C hO => wkX10_opens hO a0 S mc ms E Q h)
def rmX10_takes : Room := { frames := 5, cells := 0, slots := 0, locals := 107 }
/-- SnailPost$Reader.takes(Ljava/lang/String;)Z -/
def wpX10_takes (w : sn_W) (a0 : Nat) (s1 : Nat) (S : sn_S) (Q : Int32 → sn_S → Prop) : Prop :=
  ((∃ fs, sn_oO S a0 10 fs) ∧ wpX10_is w a0 s1 S (fun (r10 : Int32) => ((r10 = 0 → (narrow .boolean (.int r10) = .int r10 ∧ Q r10 S)) ∧ (¬ r10 = 0 → ((∃ fs, sn_oO S a0 10 fs) ∧ wpX10_next w a0 S (fun (S11 : sn_S) => (narrow .boolean (.int r10) = .int r10 ∧ Q r10 S11)))))))
theorem wkX10_takes {w : sn_W} {C : sn_C} (hO : sn_Ok LoX w C RX10 cX10_takes 3 (some .boolean) [] "takes") (a0 : Nat) (s1 : Nat) (S : sn_S) (hs1 : s1 < 29) (Q : Int32 → sn_S → Prop) : wpX10_takes w a0 s1 S Q → sn_G LoX w rmX10_takes (sn_qI Q) sn_noE C 0 0 0 [(0, .ref a0), (1, .ref (w.2.2.2.2.1 s1))] [] S := by
  unfold wpX10_takes
  generalize hQq : (sn_qI Q) = Qq
  refine sn_aload_n hO 0 rfl dX10_takes_0 ?_
  refine sn_aload_n hO 1 rfl dX10_takes_1 ?_
  refine sn_callV (P := (∃ fs, sn_oO S a0 10 fs) ∧ _) hO (c2 := 0) (s2 := 0) (rm := rmX10_is) [.ref (w.2.2.2.2.1 s1)] cvX10_48 sn_RvP (fun h => ctX10_is hs1 h.2) ⟨Nat.le_of_ble_eq_true rfl, Nat.le_of_ble_eq_true rfl⟩ rfl rfl (Nat.le_of_ble_eq_true rfl) ⟨Nat.le_of_ble_eq_true rfl, Nat.le_of_ble_eq_true rfl, rfl, rfl⟩ dX10_takes_2 (sn_bIp (fun r10 => ?_)) sn_x0
  refine sn_istore_n hO (lv' := [(2, .int r10), (0, .ref a0), (1, .ref (w.2.2.2.2.1 s1))]) (by decide) rfl dX10_takes_5 ?_
  refine sn_iload_n hO 0 rfl dX10_takes_6 ?_
  refine sn_if_eq hO 14 (by decide) dX10_takes_7 ?_ ?_
  · refine sn_iload_n hO 0 rfl dX10_takes_14 ?_
    subst hQq
    exact sn_zretP hO rfl dX10_takes_15
  · refine sn_aload_n hO 1 rfl dX10_takes_10 ?_
    refine sn_callV (P := (∃ fs, sn_oO S a0 10 fs) ∧ _) hO (c2 := 0) (s2 := 0) (rm := rmX10_next) [] cvX10_52 sn_RvP (fun h => ctX10_next h.2) ⟨Nat.le_of_ble_eq_true rfl, Nat.le_of_ble_eq_true rfl⟩ rfl rfl (Nat.le_of_ble_eq_true rfl) ⟨Nat.le_of_ble_eq_true rfl, Nat.le_of_ble_eq_true rfl, rfl, rfl⟩ dX10_takes_11 (sn_bV (fun S11 => ?_)) sn_x0
    refine sn_iload_n hO 0 rfl dX10_takes_14 ?_
    subst hQq
    exact sn_zretP hO rfl dX10_takes_15
theorem ctX10_takes {w : sn_W} {a0 : Nat} {s1 : Nat} (hs1 : s1 < 29) {S : sn_S} {Q : Int32 → sn_S → Prop} (h : wpX10_takes w a0 s1 S Q) : sn_Ct LoX w yX10_takes (ws_ yX10_takes cX10_takes 3 (some .boolean)) rmX10_takes [.ref a0, .ref (w.2.2.2.2.1 s1)] S (sn_qI Q) sn_noE := sn_Ct_of (XX_O w) (by decide) (Nat.le_of_ble_eq_true rfl) RX10 rfl (fun C hO => wkX10_takes hO a0 s1 S hs1 Q h)
def rmX10_need (mc ms : Nat) : Room := { frames := 6, cells := mc, slots := ms, locals := 133 }
/-- SnailPost$Reader.need(Ljava/lang/String;)V -/
def wpX10_need (w : sn_W) (a0 : Nat) (s1 : Nat) (S : sn_S) (mc : Nat) (ms : Nat) (E : sn_E) (Q : sn_S → Prop) : Prop :=
  ((∃ fs, sn_oO S a0 10 fs) ∧ wpX10_takes w a0 s1 S (fun (r10 : Int32) (S11 : sn_S) => ((¬ r10 = 0 → Q S11) ∧ (r10 = 0 → (sn_nw S11 mc ms 7 (.inr (11, [.null, .null, .null, .null, .null, .int 0, .int 0])) (fun a12 S13 => (sn_gI S13 a0 10 3 (fun x14 => wpX11_init w a12 x14 S13 (fun (S15 : sn_S) => ((∃ fs, sn_oO S15 a12 11 fs) ∧ E "SnailPost$Fault" a12 S15))))))))))
theorem wkX10_need {w : sn_W} {C : sn_C} (hO : sn_Ok LoX w C RX10 cX10_need 2 none [] "need") (a0 : Nat) (s1 : Nat) (S : sn_S) (mc : Nat) (ms : Nat) (E : sn_E) (hs1 : s1 < 29) (Q : sn_S → Prop) : wpX10_need w a0 s1 S mc ms E Q → sn_G LoX w (rmX10_need mc ms) (sn_qV Q) E C mc ms 0 [(0, .ref a0), (1, .ref (w.2.2.2.2.1 s1))] [] S := by
  unfold wpX10_need
  generalize hQq : (sn_qV Q) = Qq
  refine sn_aload_n hO 0 rfl dX10_need_0 ?_
  refine sn_aload_n hO 1 rfl dX10_need_1 ?_
  refine sn_callV (P := (∃ fs, sn_oO S a0 10 fs) ∧ _) hO (c2 := mc) (s2 := ms) (rm := rmX10_takes) [.ref (w.2.2.2.2.1 s1)] cvX10_55 sn_RvP (fun h => ctX10_takes hs1 h.2) ⟨Nat.le_of_ble_eq_true rfl, Nat.le_of_ble_eq_true rfl⟩ rfl rfl (Nat.le_of_ble_eq_true rfl) ⟨Nat.zero_le _, Nat.zero_le _, rfl, rfl⟩ dX10_need_2 (sn_bI (fun r10 S11 => ?_)) sn_x0
  refine sn_if_ne hO 20 (by decide) dX10_need_5 ?_ ?_
  · subst hQq
    exact sn_vret hO rfl dX10_need_20
  · refine sn_new (fs := [.null, .null, .null, .null, .null, .int 0, .int 0]) hO tyX11 in_X11 tyX11_ok q873 q874 q123 rfl nfX_11 dX10_need_8 (fun a12 S13 => ?_)
    refine sn_dup hO rfl dX10_need_11 ?_
    refine sn_aload_n hO 0 rfl dX10_need_12 ?_
    refine sn_ogetI hO fX10_31 dX10_need_13 (fun x14 => ?_)
    refine sn_callI (rY := none) hO (c2 := (mc - 1)) (s2 := (ms - 7)) (rm := rmX11_init) [.int x14] ciX10_60 (fun h => ctX11_init h) ⟨Nat.le_of_ble_eq_true rfl, Nat.le_of_ble_eq_true rfl⟩ rfl rfl (Nat.le_of_ble_eq_true rfl) ⟨Nat.zero_le _, Nat.zero_le _, rfl, rfl⟩ dX10_need_16 (sn_bV (fun S15 => ?_)) sn_x0
    exact sn_athrowA (ci := 11) hO rfl dX10_need_19 (sn_xout hO)
theorem ctX10_need {w : sn_W} {a0 : Nat} {s1 : Nat} (hs1 : s1 < 29) {S : sn_S} {mc : Nat} {ms : Nat} {E : sn_E} {Q : sn_S → Prop} (h : wpX10_need w a0 s1 S mc ms E Q) : sn_Ct LoX w yX10_need (ws_ yX10_need cX10_need 2 none) (rmX10_need mc ms) [.ref a0, .ref (w.2.2.2.2.1 s1)] S (sn_qV Q) E := sn_Ct_of (XX_O w) (by decide) (Nat.le_of_ble_eq_true rfl) RX10 rfl (fun C hO => wkX10_need hO a0 s1 S mc ms E hs1 Q h)
def rmX10_leaf (mc ms : Nat) : Room := { frames := 4, cells := mc, slots := ms, locals := 133 }
/-- SnailPost$Reader.leaf()V -/
def wpX10_leaf (w : sn_W) (a0 : Nat) (S : sn_S) (mc : Nat) (ms : Nat) (E : sn_E) (Q : sn_S → Prop) : Prop :=
  (sn_gI S a0 10 5 (fun x10 => ((¬ x10 = 50 → (sn_gI S a0 10 5 (fun x11 => (sn_sV S a0 10 5 (.int (x11 + 1)) (fun S12 => Q S12))))) ∧ (x10 = 50 → (sn_nw S mc ms 7 (.inr (11, [.null, .null, .null, .null, .null, .int 0, .int 0])) (fun a13 S14 => (sn_gI S14 a0 10 3 (fun x15 => wpX11_init w a13 x15 S14 (fun (S16 : sn_S) => ((∃ fs, sn_oO S16 a13 11 fs) ∧ E "SnailPost$Fault" a13 S16))))))))))
theorem wkX10_leaf {w : sn_W} {C : sn_C} (hO : sn_Ok LoX w C RX10 cX10_leaf 1 none [] "leaf") (a0 : Nat) (S : sn_S) (mc : Nat) (ms : Nat) (E : sn_E) (Q : sn_S → Prop) : wpX10_leaf w a0 S mc ms E Q → sn_G LoX w (rmX10_leaf mc ms) (sn_qV Q) E C mc ms 0 [(0, .ref a0)] [] S := by
  unfold wpX10_leaf
  generalize hQq : (sn_qV Q) = Qq
  refine sn_aload_n hO 0 rfl dX10_leaf_0 ?_
  refine sn_ogetI hO fX10_168 dX10_leaf_1 (fun x10 => ?_)
  refine sn_bipush hO kb_50 dX10_leaf_4 ?_
  refine sn_icmp_ne hO 21 (by decide) dX10_leaf_6 ?_ ?_
  · refine sn_aload_n hO 0 rfl dX10_leaf_21 ?_
    refine sn_dup hO rfl dX10_leaf_22 ?_
    refine sn_ogetI hO fX10_168 dX10_leaf_23 (fun x11 => ?_)
    refine sn_iconst hO kc_1 dX10_leaf_26 ?_
    refine sn_iadd hO dX10_leaf_27 ?_
    refine sn_oput hO fX10_168 rfl rfl dX10_leaf_28 (fun S12 => ?_)
    subst hQq
    exact sn_vret hO rfl dX10_leaf_31
  · refine sn_new (fs := [.null, .null, .null, .null, .null, .int 0, .int 0]) hO tyX11 in_X11 tyX11_ok q873 q874 q123 rfl nfX_11 dX10_leaf_9 (fun a13 S14 => ?_)
    refine sn_dup hO rfl dX10_leaf_12 ?_
    refine sn_aload_n hO 0 rfl dX10_leaf_13 ?_
    refine sn_ogetI hO fX10_31 dX10_leaf_14 (fun x15 => ?_)
    refine sn_callI (rY := none) hO (c2 := (mc - 1)) (s2 := (ms - 7)) (rm := rmX11_init) [.int x15] ciX10_60 (fun h => ctX11_init h) ⟨Nat.le_of_ble_eq_true rfl, Nat.le_of_ble_eq_true rfl⟩ rfl rfl (Nat.le_of_ble_eq_true rfl) ⟨Nat.zero_le _, Nat.zero_le _, rfl, rfl⟩ dX10_leaf_17 (sn_bV (fun S16 => ?_)) sn_x0
    exact sn_athrowA (ci := 11) hO rfl dX10_leaf_20 (sn_xout hO)
theorem ctX10_leaf {w : sn_W} {a0 : Nat} {S : sn_S} {mc : Nat} {ms : Nat} {E : sn_E} {Q : sn_S → Prop} (h : wpX10_leaf w a0 S mc ms E Q) : sn_Ct LoX w yX10_leaf (ws_ yX10_leaf cX10_leaf 1 none) (rmX10_leaf mc ms) [.ref a0] S (sn_qV Q) E := sn_Ct_of (XX_O w) (by decide) (Nat.le_of_ble_eq_true rfl) RX10 rfl (fun C hO => wkX10_leaf hO a0 S mc ms E Q h)
def rmX10_number (mc ms : Nat) : Room := { frames := 4, cells := mc, slots := ms, locals := 133 }
/-- SnailPost$Reader.number(II)I -/
def wpX10_number (w : sn_W) (a0 : Nat) (p1 : Int32) (p2 : Int32) (S : sn_S) (mc : Nat) (ms : Nat) (E : sn_E) (Q : Int32 → sn_S → Prop) : Prop :=
  (sn_gI S a0 10 3 (fun x10 => ((∃ fs, sn_oO S a0 10 fs) ∧ wpX10_isIn w a0 x10 48 57 S (fun (r11 : Int32) => ((¬ r11 = 0 → (sn_gI S a0 10 3 (fun x12 => sn_jn (fun (v13 : Int32) => sn_jn (κ := Prop) ((sn_nw S mc ms 7 (.inr (11, [.null, .null, .null, .null, .null, .int 0, .int 0])) (fun a16 S17 => (sn_gI S17 a0 10 3 (fun x18 => wpX11_init w a16 x18 S17 (fun (S19 : sn_S) => ((∃ fs, sn_oO S19 a16 11 fs) ∧ E "SnailPost$Fault" a16 S19))))))) (fun (k15 : Prop) => ((v13 < p1 → k15) ∧ (¬ v13 < p1 → ((v13 ≤ p2 → ((∃ fs, sn_oO S a0 10 fs) ∧ wpX10_next w a0 S (fun (S20 : sn_S) => Q v13 S20))) ∧ (¬ v13 ≤ p2 → k15)))))) (fun (k14 : Int32 → Prop) => sn_lp2 (fun (rc23 : Int32 → Int32 → Prop) (i21 : Int32) (i22 : Int32) => (sn_gI S a0 10 4 (fun x24 => ((x24 ≤ i22 → k14 i21) ∧ (¬ x24 ≤ i22 → ((p2 < i21 → k14 i21) ∧ (¬ p2 < i21 → (sn_gK w S a0 10 0 11 ((vp_in i22 400 ∧ sn_lt (((10 * i21) + (S.1 11 (i22).toNatClampNeg)) - 48) (fun x25 => rc23 x25 (i22 + 1)))))))))))) 0 x12)))) ∧ (r11 = 0 → (sn_nw S mc ms 7 (.inr (11, [.null, .null, .null, .null, .null, .int 0, .int 0])) (fun a26 S27 => (sn_gI S27 a0 10 3 (fun x28 => wpX11_init w a26 x28 S27 (fun (S29 : sn_S) => ((∃ fs, sn_oO S29 a26 11 fs) ∧ E "SnailPost$Fault" a26 S29))))))))))))
theorem wkX10_number {w : sn_W} {C : sn_C} (hO : sn_Ok LoX w C RX10 cX10_number 5 (some .int) [] "number") (a0 : Nat) (p1 : Int32) (p2 : Int32) (S : sn_S) (mc : Nat) (ms : Nat) (E : sn_E) (Q : Int32 → sn_S → Prop) : wpX10_number w a0 p1 p2 S mc ms E Q → sn_G LoX w (rmX10_number mc ms) (sn_qI Q) E C mc ms 0 [(0, .ref a0), (1, .int p1), (2, .int p2)] [] S := by
  unfold wpX10_number
  generalize hQq : (sn_qI Q) = Qq
  refine sn_aload_n hO 0 rfl dX10_number_0 ?_
  refine sn_aload_n hO 0 rfl dX10_number_1 ?_
  refine sn_ogetI hO fX10_31 dX10_number_2 (fun x10 => ?_)
  refine sn_bipush hO kb_48 dX10_number_5 ?_
  refine sn_bipush hO kb_57 dX10_number_7 ?_
  refine sn_callV (P := (∃ fs, sn_oO S a0 10 fs) ∧ _) hO (c2 := mc) (s2 := ms) (rm := rmX10_isIn) [.int x10, .int 48, .int 57] cvX10_34 sn_RvP (fun h => ctX10_isIn h.2) ⟨Nat.le_of_ble_eq_true rfl, Nat.le_of_ble_eq_true rfl⟩ rfl rfl (Nat.le_of_ble_eq_true rfl) ⟨Nat.zero_le _, Nat.zero_le _, rfl, rfl⟩ dX10_number_9 (sn_bIp (fun r11 => ?_)) sn_x0
  refine sn_if_ne hO 27 (by decide) dX10_number_12 ?_ ?_
  · refine sn_iconst hO kc_0 dX10_number_27 ?_
    refine sn_istore_n hO (lv' := [(3, .int 0), (0, .ref a0), (1, .int p1), (2, .int p2)]) (by decide) rfl dX10_number_28 ?_
    refine sn_aload_n hO 1 rfl dX10_number_29 ?_
    refine sn_ogetI hO fX10_31 dX10_number_30 (fun x12 => ?_)
    refine sn_istore hO (lv' := [(4, .int x12), (3, .int 0), (0, .ref a0), (1, .int p1), (2, .int p2)]) (by decide) rfl dX10_number_33 ?_
    refine sn_jn_walk (fun (k : Int32 → Prop) => ∀ (v13 : Int32), k v13 → sn_G LoX w (rmX10_number mc ms) Qq E C mc ms 71 [(0, .ref a0), (1, .int p1), (2, .int p2), (3, .int v13)] [] S) ?_ ?_
    · intro v13
      refine sn_iload_n hO 3 rfl dX10_number_71 ?_
      refine sn_iload_n hO 1 rfl dX10_number_72 ?_
      refine sn_jn_walk (fun (k : Prop) => k → sn_G LoX w (rmX10_number mc ms) Qq E C mc ms 81 [(0, .ref a0)] [] S) ?_ ?_
      · refine sn_new (fs := [.null, .null, .null, .null, .null, .int 0, .int 0]) hO tyX11 in_X11 tyX11_ok q873 q874 q123 rfl nfX_11 dX10_number_81 (fun a16 S17 => ?_)
        refine sn_dup hO rfl dX10_number_84 ?_
        refine sn_aload_n hO 0 rfl dX10_number_85 ?_
        refine sn_ogetI hO fX10_31 dX10_number_86 (fun x18 => ?_)
        refine sn_callI (rY := none) hO (c2 := (mc - 1)) (s2 := (ms - 7)) (rm := rmX11_init) [.int x18] ciX10_60 (fun h => ctX11_init h) ⟨Nat.le_of_ble_eq_true rfl, Nat.le_of_ble_eq_true rfl⟩ rfl rfl (Nat.le_of_ble_eq_true rfl) ⟨Nat.zero_le _, Nat.zero_le _, rfl, rfl⟩ dX10_number_89 (sn_bV (fun S19 => ?_)) sn_x0
        exact sn_athrowA (ci := 11) hO rfl dX10_number_92 (sn_xout hO)
      · intro k15 hk15
        refine sn_icmp_lt hO 81 (by decide) dX10_number_73 ?_ ?_
        · refine sn_sub [0] rfl ?_
          exact hk15
        · refine sn_iload_n hO 3 rfl dX10_number_76 ?_
          refine sn_iload_n hO 2 rfl dX10_number_77 ?_
          refine sn_icmp_le hO 93 (by decide) dX10_number_78 ?_ ?_
          · refine sn_aload_n hO 0 rfl dX10_number_93 ?_
            refine sn_callV (P := (∃ fs, sn_oO S a0 10 fs) ∧ _) hO (c2 := mc) (s2 := ms) (rm := rmX10_next) [] cvX10_52 sn_RvP (fun h => ctX10_next h.2) ⟨Nat.le_of_ble_eq_true rfl, Nat.le_of_ble_eq_true rfl⟩ rfl rfl (Nat.le_of_ble_eq_true rfl) ⟨Nat.zero_le _, Nat.zero_le _, rfl, rfl⟩ dX10_number_94 (sn_bV (fun S20 => ?_)) sn_x0
            refine sn_iload_n hO 3 rfl dX10_number_97 ?_
            subst hQq
            exact sn_iret hO rfl dX10_number_98
          · refine sn_sub [0] rfl ?_
            exact hk15
    · intro k14 hk14
      refine sn_sub [2, 3, 4, 1, 0] rfl ?_
      refine sn_lp2_walk (Gd := fun (i21 : Int32) (i22 : Int32) => sn_G LoX w (rmX10_number mc ms) Qq E C mc ms 35 [(0, .ref a0), (1, .int p1), (2, .int p2), (3, .int i21), (4, .int i22)] [] S) ?_ _ _
      intro rc23 hrc23 i21 i22
      refine sn_iload hO 4 rfl dX10_number_35 ?_
      refine sn_aload_n hO 0 rfl dX10_number_37 ?_
      refine sn_ogetI hO fX10_28 dX10_number_38 (fun x24 => ?_)
      refine sn_icmp_ge hO 71 (by decide) dX10_number_41 ?_ ?_
      · refine sn_sub [0, 1, 2, 3] rfl ?_
        exact hk14 _
      · refine sn_iload_n hO 3 rfl dX10_number_44 ?_
        refine sn_iload_n hO 2 rfl dX10_number_45 ?_
        refine sn_icmp_gt hO 71 (by decide) dX10_number_46 ?_ ?_
        · refine sn_sub [0, 1, 2, 3] rfl ?_
          exact hk14 _
        · refine sn_bipush hO kb_10 dX10_number_49 ?_
          refine sn_iload_n hO 3 rfl dX10_number_51 ?_
          refine sn_imul hO dX10_number_52 ?_
          refine sn_aload_n hO 0 rfl dX10_number_53 ?_
          refine sn_ogetK hO fX10_20 dX10_number_54 ?_
          refine sn_iload hO 4 rfl dX10_number_57 ?_
          refine sn_bald hO atX_11 rfl dX10_number_59 ?_
          refine sn_iadd hO dX10_number_60 ?_
          refine sn_bipush hO kb_48 dX10_number_61 ?_
          refine sn_isub hO dX10_number_63 ?_
          refine sn_nmI (fun x25 => ?_)
          refine sn_istore_n hO (lv' := [(3, .int x25), (0, .ref a0), (1, .int p1), (2, .int p2), (4, .int i22)]) (by decide) rfl dX10_number_64 ?_
          refine sn_iinc hO (lv' := [(4, .int (i22 + 1)), (3, .int x25), (0, .ref a0), (1, .int p1), (2, .int p2)]) 4 rfl ki_1 (by decide) rfl dX10_number_65 ?_
          refine sn_goto hO 35 (by decide) dX10_number_68 ?_
          refine sn_sub [2, 3, 4, 1, 0] rfl ?_
          exact hrc23 _ _
  · refine sn_new (fs := [.null, .null, .null, .null, .null, .int 0, .int 0]) hO tyX11 in_X11 tyX11_ok q873 q874 q123 rfl nfX_11 dX10_number_15 (fun a26 S27 => ?_)
    refine sn_dup hO rfl dX10_number_18 ?_
    refine sn_aload_n hO 0 rfl dX10_number_19 ?_
    refine sn_ogetI hO fX10_31 dX10_number_20 (fun x28 => ?_)
    refine sn_callI (rY := none) hO (c2 := (mc - 1)) (s2 := (ms - 7)) (rm := rmX11_init) [.int x28] ciX10_60 (fun h => ctX11_init h) ⟨Nat.le_of_ble_eq_true rfl, Nat.le_of_ble_eq_true rfl⟩ rfl rfl (Nat.le_of_ble_eq_true rfl) ⟨Nat.zero_le _, Nat.zero_le _, rfl, rfl⟩ dX10_number_23 (sn_bV (fun S29 => ?_)) sn_x0
    exact sn_athrowA (ci := 11) hO rfl dX10_number_26 (sn_xout hO)
theorem ctX10_number {w : sn_W} {a0 : Nat} {p1 : Int32} {p2 : Int32} {S : sn_S} {mc : Nat} {ms : Nat} {E : sn_E} {Q : Int32 → sn_S → Prop} (h : wpX10_number w a0 p1 p2 S mc ms E Q) : sn_Ct LoX w yX10_number (ws_ yX10_number cX10_number 5 (some .int)) (rmX10_number mc ms) [.ref a0, .int p1, .int p2] S (sn_qI Q) E := sn_Ct_of (XX_O w) (by decide) (Nat.le_of_ble_eq_true rfl) RX10 rfl (fun C hO => wkX10_number hO a0 p1 p2 S mc ms E Q h)
def rmX13_init : Room := { frames := 1, cells := 0, slots := 0, locals := 64 }
/-- SnailPost$Sum.<init>()V -/
def wpX13_init (w : sn_W) (a0 : Nat) (S : sn_S) (Q : Prop) : Prop :=
  Q
theorem wkX13_init {w : sn_W} {C : sn_C} (hO : sn_Ok LoX w C RX13 cX13_init 1 none [] "<init>") (a0 : Nat) (S : sn_S) (Q : Prop) : wpX13_init w a0 S Q → sn_G LoX w rmX13_init (sn_qV (fun S1 => S1 = S ∧ Q)) sn_noE C 0 0 0 [(0, .ref a0)] [] S := by
  unfold wpX13_init
  generalize hQq : (sn_qV (fun S1 => S1 = S ∧ Q)) = Qq
  refine sn_aload_n hO 0 rfl dX13_init_0 ?_
  refine sn_objInit hO q953 q146 q147 ⟨Nat.le_of_ble_eq_true rfl, Nat.le_of_ble_eq_true rfl⟩ dX13_init_1 ?_
  subst hQq
  exact fun h => sn_vret hO rfl dX13_init_4 ⟨rfl, h⟩
theorem ctX13_init {w : sn_W} {a0 : Nat} {S : sn_S} {Q : Prop} (h : wpX13_init w a0 S Q) : sn_Ct LoX w yX13_init (ws_ yX13_init cX13_init 1 none) rmX13_init [.ref a0] S (sn_qV (fun S1 => S1 = S ∧ Q)) sn_noE := sn_Ct_of (XX_O w) (by decide) (Nat.le_of_ble_eq_true rfl) RX13 rfl (fun C hO => wkX13_init hO a0 S Q h)
def rmX14_init : Room := { frames := 2, cells := 0, slots := 0, locals := 84 }
/-- SnailPost$Number.<init>(I)V -/
def wpX14_init (w : sn_W) (a0 : Nat) (p1 : Int32) (S : sn_S) (Q : sn_S → Prop) : Prop :=
  wpX13_init w a0 S ((sn_sV S a0 13 0 (.int p1) (fun S10 => Q S10)))
theorem wkX14_init {w : sn_W} {C : sn_C} (hO : sn_Ok LoX w C RX14 cX14_init 2 none [] "<init>") (a0 : Nat) (p1 : Int32) (S : sn_S) (Q : sn_S → Prop) : wpX14_init w a0 p1 S Q → sn_G LoX w rmX14_init (sn_qV Q) sn_noE C 0 0 0 [(0, .ref a0), (1, .int p1)] [] S := by
  unfold wpX14_init
  generalize hQq : (sn_qV Q) = Qq
  refine sn_aload_n hO 0 rfl dX14_init_0 ?_
  refine sn_callIN (rY := none) hO (c2 := 0) (s2 := 0) (rm := rmX13_init) [] ciX14_1 (fun h => ctX13_init h) ⟨Nat.le_of_ble_eq_true rfl, Nat.le_of_ble_eq_true rfl⟩ rfl rfl (Nat.le_of_ble_eq_true rfl) ⟨Nat.le_of_ble_eq_true rfl, Nat.le_of_ble_eq_true rfl, rfl, rfl⟩ dX14_init_1 (sn_bVp ?_) sn_x0
  refine sn_aload_n hO 0 rfl dX14_init_4 ?_
  refine sn_iload_n hO 1 rfl dX14_init_5 ?_
  refine sn_oputF hO fX14_7 (fun _ _ _ h => by cases h; rfl) rfl rfl dX14_init_6 (fun S10 => ?_)
  subst hQq
  exact sn_vret hO rfl dX14_init_9
theorem ctX14_init {w : sn_W} {a0 : Nat} {p1 : Int32} {S : sn_S} {Q : sn_S → Prop} (h : wpX14_init w a0 p1 S Q) : sn_Ct LoX w yX14_init (ws_ yX14_init cX14_init 2 none) rmX14_init [.ref a0, .int p1] S (sn_qV Q) sn_noE := sn_Ct_of (XX_O w) (by decide) (Nat.le_of_ble_eq_true rfl) RX14 rfl (fun C hO => wkX14_init hO a0 p1 S Q h)
def rmX10_value : Room := { frames := 5, cells := 0, slots := 0, locals := 107 }
/-- SnailPost$Reader.value()I -/
def wpX10_value (w : sn_W) (a0 : Nat) (S : sn_S) (Q : Int32 → Prop) : Prop :=
  ((∃ fs, sn_oO S a0 10 fs) ∧ wpX10_is w a0 17 S (fun (r10 : Int32) => ((r10 = 0 → ((∃ fs, sn_oO S a0 10 fs) ∧ wpX10_is w a0 18 S (fun (r11 : Int32) => ((r11 = 0 → ((∃ fs, sn_oO S a0 10 fs) ∧ wpX10_is w a0 19 S (fun (r12 : Int32) => ((r12 = 0 → ((∃ fs, sn_oO S a0 10 fs) ∧ wpX10_is w a0 20 S (fun (r13 : Int32) => ((r13 = 0 → ((∃ fs, sn_oO S a0 10 fs) ∧ wpX10_is w a0 21 S (fun (r14 : Int32) => ((r14 = 0 → ((∃ fs, sn_oO S a0 10 fs) ∧ wpX10_is w a0 22 S (fun (r15 : Int32) => ((r15 = 0 → ((∃ fs, sn_oO S a0 10 fs) ∧ wpX10_is w a0 23 S (fun (r16 : Int32) => ((r16 = 0 → ((∃ fs, sn_oO S a0 10 fs) ∧ wpX10_is w a0 24 S (fun (r17 : Int32) => ((r17 = 0 → ((∃ fs, sn_oO S a0 10 fs) ∧ wpX10_is w a0 25 S (fun (r18 : Int32) => ((r18 = 0 → ((∃ fs, sn_oO S a0 10 fs) ∧ wpX10_is w a0 26 S (fun (r19 : Int32) => ((r19 = 0 → Q (-1)) ∧ (¬ r19 = 0 → Q 9))))) ∧ (¬ r18 = 0 → Q 8))))) ∧ (¬ r17 = 0 → Q 7))))) ∧ (¬ r16 = 0 → Q 6))))) ∧ (¬ r15 = 0 → Q 5))))) ∧ (¬ r14 = 0 → Q 4))))) ∧ (¬ r13 = 0 → Q 3))))) ∧ (¬ r12 = 0 → Q 2))))) ∧ (¬ r11 = 0 → Q 1))))) ∧ (¬ r10 = 0 → Q 0))))
theorem wkX10_value {w : sn_W} {C : sn_C} (hO : sn_Ok LoX w C RX10 cX10_value 1 (some .int) [] "value") (a0 : Nat) (S : sn_S) (Q : Int32 → Prop) : wpX10_value w a0 S Q → sn_G LoX w rmX10_value (sn_qI (fun r S1 => S1 = S ∧ Q r)) sn_noE C 0 0 0 [(0, .ref a0)] [] S := by
  unfold wpX10_value
  generalize hQq : (sn_qI (fun r S1 => S1 = S ∧ Q r)) = Qq
  refine sn_aload_n hO 0 rfl dX10_value_0 ?_
  refine sn_ldcS hO skX_17 dX10_value_1 ?_
  refine sn_callV (P := (∃ fs, sn_oO S a0 10 fs) ∧ _) hO (c2 := 0) (s2 := 0) (rm := rmX10_is) [.ref (w.2.2.2.2.1 17)] cvX10_48 sn_RvP (fun h => ctX10_is (Nat.le_of_ble_eq_true rfl) h.2) ⟨Nat.le_of_ble_eq_true rfl, Nat.le_of_ble_eq_true rfl⟩ rfl rfl (Nat.le_of_ble_eq_true rfl) ⟨Nat.le_of_ble_eq_true rfl, Nat.le_of_ble_eq_true rfl, rfl, rfl⟩ dX10_value_3 (sn_bIp (fun r10 => ?_)) sn_x0
  refine sn_if_eq hO 11 (by decide) dX10_value_6 ?_ ?_
  · refine sn_aload_n hO 0 rfl dX10_value_11 ?_
    refine sn_ldcS hO skX_18 dX10_value_12 ?_
    refine sn_callV (P := (∃ fs, sn_oO S a0 10 fs) ∧ _) hO (c2 := 0) (s2 := 0) (rm := rmX10_is) [.ref (w.2.2.2.2.1 18)] cvX10_48 sn_RvP (fun h => ctX10_is (Nat.le_of_ble_eq_true rfl) h.2) ⟨Nat.le_of_ble_eq_true rfl, Nat.le_of_ble_eq_true rfl⟩ rfl rfl (Nat.le_of_ble_eq_true rfl) ⟨Nat.le_of_ble_eq_true rfl, Nat.le_of_ble_eq_true rfl, rfl, rfl⟩ dX10_value_14 (sn_bIp (fun r11 => ?_)) sn_x0
    refine sn_if_eq hO 22 (by decide) dX10_value_17 ?_ ?_
    · refine sn_aload_n hO 0 rfl dX10_value_22 ?_
      refine sn_ldcS hO skX_19 dX10_value_23 ?_
      refine sn_callV (P := (∃ fs, sn_oO S a0 10 fs) ∧ _) hO (c2 := 0) (s2 := 0) (rm := rmX10_is) [.ref (w.2.2.2.2.1 19)] cvX10_48 sn_RvP (fun h => ctX10_is (Nat.le_of_ble_eq_true rfl) h.2) ⟨Nat.le_of_ble_eq_true rfl, Nat.le_of_ble_eq_true rfl⟩ rfl rfl (Nat.le_of_ble_eq_true rfl) ⟨Nat.le_of_ble_eq_true rfl, Nat.le_of_ble_eq_true rfl, rfl, rfl⟩ dX10_value_25 (sn_bIp (fun r12 => ?_)) sn_x0
      refine sn_if_eq hO 33 (by decide) dX10_value_28 ?_ ?_
      · refine sn_aload_n hO 0 rfl dX10_value_33 ?_
        refine sn_ldcS hO skX_20 dX10_value_34 ?_
        refine sn_callV (P := (∃ fs, sn_oO S a0 10 fs) ∧ _) hO (c2 := 0) (s2 := 0) (rm := rmX10_is) [.ref (w.2.2.2.2.1 20)] cvX10_48 sn_RvP (fun h => ctX10_is (Nat.le_of_ble_eq_true rfl) h.2) ⟨Nat.le_of_ble_eq_true rfl, Nat.le_of_ble_eq_true rfl⟩ rfl rfl (Nat.le_of_ble_eq_true rfl) ⟨Nat.le_of_ble_eq_true rfl, Nat.le_of_ble_eq_true rfl, rfl, rfl⟩ dX10_value_36 (sn_bIp (fun r13 => ?_)) sn_x0
        refine sn_if_eq hO 44 (by decide) dX10_value_39 ?_ ?_
        · refine sn_aload_n hO 0 rfl dX10_value_44 ?_
          refine sn_ldcS hO skX_21 dX10_value_45 ?_
          refine sn_callV (P := (∃ fs, sn_oO S a0 10 fs) ∧ _) hO (c2 := 0) (s2 := 0) (rm := rmX10_is) [.ref (w.2.2.2.2.1 21)] cvX10_48 sn_RvP (fun h => ctX10_is (Nat.le_of_ble_eq_true rfl) h.2) ⟨Nat.le_of_ble_eq_true rfl, Nat.le_of_ble_eq_true rfl⟩ rfl rfl (Nat.le_of_ble_eq_true rfl) ⟨Nat.le_of_ble_eq_true rfl, Nat.le_of_ble_eq_true rfl, rfl, rfl⟩ dX10_value_47 (sn_bIp (fun r14 => ?_)) sn_x0
          refine sn_if_eq hO 55 (by decide) dX10_value_50 ?_ ?_
          · refine sn_aload_n hO 0 rfl dX10_value_55 ?_
            refine sn_ldcS hO skX_22 dX10_value_56 ?_
            refine sn_callV (P := (∃ fs, sn_oO S a0 10 fs) ∧ _) hO (c2 := 0) (s2 := 0) (rm := rmX10_is) [.ref (w.2.2.2.2.1 22)] cvX10_48 sn_RvP (fun h => ctX10_is (Nat.le_of_ble_eq_true rfl) h.2) ⟨Nat.le_of_ble_eq_true rfl, Nat.le_of_ble_eq_true rfl⟩ rfl rfl (Nat.le_of_ble_eq_true rfl) ⟨Nat.le_of_ble_eq_true rfl, Nat.le_of_ble_eq_true rfl, rfl, rfl⟩ dX10_value_58 (sn_bIp (fun r15 => ?_)) sn_x0
            refine sn_if_eq hO 66 (by decide) dX10_value_61 ?_ ?_
            · refine sn_aload_n hO 0 rfl dX10_value_66 ?_
              refine sn_ldcS hO skX_23 dX10_value_67 ?_
              refine sn_callV (P := (∃ fs, sn_oO S a0 10 fs) ∧ _) hO (c2 := 0) (s2 := 0) (rm := rmX10_is) [.ref (w.2.2.2.2.1 23)] cvX10_48 sn_RvP (fun h => ctX10_is (Nat.le_of_ble_eq_true rfl) h.2) ⟨Nat.le_of_ble_eq_true rfl, Nat.le_of_ble_eq_true rfl⟩ rfl rfl (Nat.le_of_ble_eq_true rfl) ⟨Nat.le_of_ble_eq_true rfl, Nat.le_of_ble_eq_true rfl, rfl, rfl⟩ dX10_value_69 (sn_bIp (fun r16 => ?_)) sn_x0
              refine sn_if_eq hO 78 (by decide) dX10_value_72 ?_ ?_
              · refine sn_aload_n hO 0 rfl dX10_value_78 ?_
                refine sn_ldcS hO skX_24 dX10_value_79 ?_
                refine sn_callV (P := (∃ fs, sn_oO S a0 10 fs) ∧ _) hO (c2 := 0) (s2 := 0) (rm := rmX10_is) [.ref (w.2.2.2.2.1 24)] cvX10_48 sn_RvP (fun h => ctX10_is (Nat.le_of_ble_eq_true rfl) h.2) ⟨Nat.le_of_ble_eq_true rfl, Nat.le_of_ble_eq_true rfl⟩ rfl rfl (Nat.le_of_ble_eq_true rfl) ⟨Nat.le_of_ble_eq_true rfl, Nat.le_of_ble_eq_true rfl, rfl, rfl⟩ dX10_value_81 (sn_bIp (fun r17 => ?_)) sn_x0
                refine sn_if_eq hO 90 (by decide) dX10_value_84 ?_ ?_
                · refine sn_aload_n hO 0 rfl dX10_value_90 ?_
                  refine sn_ldcS hO skX_25 dX10_value_91 ?_
                  refine sn_callV (P := (∃ fs, sn_oO S a0 10 fs) ∧ _) hO (c2 := 0) (s2 := 0) (rm := rmX10_is) [.ref (w.2.2.2.2.1 25)] cvX10_48 sn_RvP (fun h => ctX10_is (Nat.le_of_ble_eq_true rfl) h.2) ⟨Nat.le_of_ble_eq_true rfl, Nat.le_of_ble_eq_true rfl⟩ rfl rfl (Nat.le_of_ble_eq_true rfl) ⟨Nat.le_of_ble_eq_true rfl, Nat.le_of_ble_eq_true rfl, rfl, rfl⟩ dX10_value_93 (sn_bIp (fun r18 => ?_)) sn_x0
                  refine sn_if_eq hO 102 (by decide) dX10_value_96 ?_ ?_
                  · refine sn_aload_n hO 0 rfl dX10_value_102 ?_
                    refine sn_ldcS hO skX_26 dX10_value_103 ?_
                    refine sn_callV (P := (∃ fs, sn_oO S a0 10 fs) ∧ _) hO (c2 := 0) (s2 := 0) (rm := rmX10_is) [.ref (w.2.2.2.2.1 26)] cvX10_48 sn_RvP (fun h => ctX10_is (Nat.le_of_ble_eq_true rfl) h.2) ⟨Nat.le_of_ble_eq_true rfl, Nat.le_of_ble_eq_true rfl⟩ rfl rfl (Nat.le_of_ble_eq_true rfl) ⟨Nat.le_of_ble_eq_true rfl, Nat.le_of_ble_eq_true rfl, rfl, rfl⟩ dX10_value_105 (sn_bIp (fun r19 => ?_)) sn_x0
                    refine sn_if_eq hO 116 (by decide) dX10_value_108 ?_ ?_
                    · refine sn_iconst hO kc_m1 dX10_value_116 ?_
                      subst hQq
                      exact fun h => sn_iret hO rfl dX10_value_117 ⟨rfl, h⟩
                    · refine sn_bipush hO kb_9 dX10_value_111 ?_
                      refine sn_goto hO 117 (by decide) dX10_value_113 ?_
                      subst hQq
                      exact fun h => sn_iret hO rfl dX10_value_117 ⟨rfl, h⟩
                  · refine sn_bipush hO kb_8 dX10_value_99 ?_
                    subst hQq
                    exact fun h => sn_iret hO rfl dX10_value_101 ⟨rfl, h⟩
                · refine sn_bipush hO kb_7 dX10_value_87 ?_
                  subst hQq
                  exact fun h => sn_iret hO rfl dX10_value_89 ⟨rfl, h⟩
              · refine sn_bipush hO kb_6 dX10_value_75 ?_
                subst hQq
                exact fun h => sn_iret hO rfl dX10_value_77 ⟨rfl, h⟩
            · refine sn_iconst hO kc_5 dX10_value_64 ?_
              subst hQq
              exact fun h => sn_iret hO rfl dX10_value_65 ⟨rfl, h⟩
          · refine sn_iconst hO kc_4 dX10_value_53 ?_
            subst hQq
            exact fun h => sn_iret hO rfl dX10_value_54 ⟨rfl, h⟩
        · refine sn_iconst hO kc_3 dX10_value_42 ?_
          subst hQq
          exact fun h => sn_iret hO rfl dX10_value_43 ⟨rfl, h⟩
      · refine sn_iconst hO kc_2 dX10_value_31 ?_
        subst hQq
        exact fun h => sn_iret hO rfl dX10_value_32 ⟨rfl, h⟩
    · refine sn_iconst hO kc_1 dX10_value_20 ?_
      subst hQq
      exact fun h => sn_iret hO rfl dX10_value_21 ⟨rfl, h⟩
  · refine sn_iconst hO kc_0 dX10_value_9 ?_
    subst hQq
    exact fun h => sn_iret hO rfl dX10_value_10 ⟨rfl, h⟩
theorem ctX10_value {w : sn_W} {a0 : Nat} {S : sn_S} {Q : Int32 → Prop} (h : wpX10_value w a0 S Q) : sn_Ct LoX w yX10_value (ws_ yX10_value cX10_value 1 (some .int)) rmX10_value [.ref a0] S (sn_qI (fun r S1 => S1 = S ∧ Q r)) sn_noE := sn_Ct_of (XX_O w) (by decide) (Nat.le_of_ble_eq_true rfl) RX10 rfl (fun C hO => wkX10_value hO a0 S Q h)
def rmX15_init : Room := { frames := 2, cells := 0, slots := 0, locals := 84 }
/-- SnailPost$Value.<init>(I)V -/
def wpX15_init (w : sn_W) (a0 : Nat) (p1 : Int32) (S : sn_S) (Q : sn_S → Prop) : Prop :=
  wpX13_init w a0 S ((sn_sV S a0 14 0 (.int p1) (fun S10 => Q S10)))
theorem wkX15_init {w : sn_W} {C : sn_C} (hO : sn_Ok LoX w C RX15 cX15_init 2 none [] "<init>") (a0 : Nat) (p1 : Int32) (S : sn_S) (Q : sn_S → Prop) : wpX15_init w a0 p1 S Q → sn_G LoX w rmX15_init (sn_qV Q) sn_noE C 0 0 0 [(0, .ref a0), (1, .int p1)] [] S := by
  unfold wpX15_init
  generalize hQq : (sn_qV Q) = Qq
  refine sn_aload_n hO 0 rfl dX15_init_0 ?_
  refine sn_callIN (rY := none) hO (c2 := 0) (s2 := 0) (rm := rmX13_init) [] ciX15_1 (fun h => ctX13_init h) ⟨Nat.le_of_ble_eq_true rfl, Nat.le_of_ble_eq_true rfl⟩ rfl rfl (Nat.le_of_ble_eq_true rfl) ⟨Nat.le_of_ble_eq_true rfl, Nat.le_of_ble_eq_true rfl, rfl, rfl⟩ dX15_init_1 (sn_bVp ?_) sn_x0
  refine sn_aload_n hO 0 rfl dX15_init_4 ?_
  refine sn_iload_n hO 1 rfl dX15_init_5 ?_
  refine sn_oputF hO fX15_7 (fun _ _ _ h => by cases h; rfl) rfl rfl dX15_init_6 (fun S10 => ?_)
  subst hQq
  exact sn_vret hO rfl dX15_init_9
theorem ctX15_init {w : sn_W} {a0 : Nat} {p1 : Int32} {S : sn_S} {Q : sn_S → Prop} (h : wpX15_init w a0 p1 S Q) : sn_Ct LoX w yX15_init (ws_ yX15_init cX15_init 2 none) rmX15_init [.ref a0, .int p1] S (sn_qV Q) sn_noE := sn_Ct_of (XX_O w) (by decide) (Nat.le_of_ble_eq_true rfl) RX15 rfl (fun C hO => wkX15_init hO a0 p1 S Q h)
def rmX16_init : Room := { frames := 2, cells := 0, slots := 0, locals := 84 }
/-- SnailPost$Two.<init>(CLSnailPost$Sum;LSnailPost$Sum;)V -/
def wpX16_init (w : sn_W) (a0 : Nat) (p1 : Int32) (a2 : Nat) (a3 : Nat) (S : sn_S) (Q : sn_S → Prop) : Prop :=
  wpX13_init w a0 S (((narrow (tyX16 0) (.int p1) = (.int p1) ∧ fits (tyX16 0) (.int p1) = true) ∧ (sn_sV S a0 15 0 (.int p1) (fun S10 => (sn_sV S10 a0 15 1 (.ref a2) (fun S11 => (sn_sV S11 a0 15 2 (.ref a3) (fun S12 => Q S12))))))))
theorem wkX16_init {w : sn_W} {C : sn_C} (hO : sn_Ok LoX w C RX16 cX16_init 4 none [] "<init>") (a0 : Nat) (p1 : Int32) (a2 : Nat) (a3 : Nat) (S : sn_S) (Q : sn_S → Prop) : wpX16_init w a0 p1 a2 a3 S Q → sn_G LoX w rmX16_init (sn_qV Q) sn_noE C 0 0 0 [(0, .ref a0), (1, .int p1), (2, .ref a2), (3, .ref a3)] [] S := by
  unfold wpX16_init
  generalize hQq : (sn_qV Q) = Qq
  refine sn_aload_n hO 0 rfl dX16_init_0 ?_
  refine sn_callIN (rY := none) hO (c2 := 0) (s2 := 0) (rm := rmX13_init) [] ciX16_3 (fun h => ctX13_init h) ⟨Nat.le_of_ble_eq_true rfl, Nat.le_of_ble_eq_true rfl⟩ rfl rfl (Nat.le_of_ble_eq_true rfl) ⟨Nat.le_of_ble_eq_true rfl, Nat.le_of_ble_eq_true rfl, rfl, rfl⟩ dX16_init_1 (sn_bVp ?_) sn_x0
  refine sn_aload_n hO 0 rfl dX16_init_4 ?_
  refine sn_iload_n hO 1 rfl dX16_init_5 ?_
  refine sn_oputFP hO fX16_9 (fun _ _ _ h => by cases h; rfl) dX16_init_6 (fun S10 => ?_)
  refine sn_aload_n hO 0 rfl dX16_init_9 ?_
  refine sn_aload_n hO 2 rfl dX16_init_10 ?_
  refine sn_oputF hO fX16_15 (fun _ _ _ h => by cases h; rfl) rfl rfl dX16_init_11 (fun S11 => ?_)
  refine sn_aload_n hO 0 rfl dX16_init_14 ?_
  refine sn_aload_n hO 3 rfl dX16_init_15 ?_
  refine sn_oputF hO fX16_19 (fun _ _ _ h => by cases h; rfl) rfl rfl dX16_init_16 (fun S12 => ?_)
  subst hQq
  exact sn_vret hO rfl dX16_init_19
theorem ctX16_init {w : sn_W} {a0 : Nat} {p1 : Int32} {a2 : Nat} {a3 : Nat} {S : sn_S} {Q : sn_S → Prop} (h : wpX16_init w a0 p1 a2 a3 S Q) : sn_Ct LoX w yX16_init (ws_ yX16_init cX16_init 4 none) rmX16_init [.ref a0, .int p1, .ref a2, .ref a3] S (sn_qV Q) sn_noE := sn_Ct_of (XX_O w) (by decide) (Nat.le_of_ble_eq_true rfl) RX16 rfl (fun C hO => wkX16_init hO a0 p1 a2 a3 S Q h)
def rmX10_sum (d : Nat) (mc ms : Nat) : Room := { frames := 8 * d + 7, cells := mc, slots := ms, locals := 800 * d + 157 }
def okX10_sum (w : sn_W) (d : Nat) (self : Nat → sn_S → Nat → Nat → sn_E → (Nat → sn_S → Prop) → Prop) : Prop := ∀ (a0 : Nat) (S : sn_S) (mc : Nat) (ms : Nat) (E : sn_E) (Q : Nat → sn_S → Prop), self a0 S mc ms E Q → sn_Ct LoX w yX10_sum (ws_ yX10_sum cX10_sum 3 (some (.object "SnailPost$Sum"))) (rmX10_sum d mc ms) [.ref a0] S (sn_qA Q) E
theorem okX10_sum.use {w : sn_W} {d : Nat} {self : Nat → sn_S → Nat → Nat → sn_E → (Nat → sn_S → Prop) → Prop} (hself : okX10_sum w d self) {a0 : Nat} {S : sn_S} {mc : Nat} {ms : Nat} {E : sn_E} {Q : Nat → sn_S → Prop} (h : self a0 S mc ms E Q) : sn_Ct LoX w yX10_sum (ws_ yX10_sum cX10_sum 3 (some (.object "SnailPost$Sum"))) (rmX10_sum d mc ms) [.ref a0] S (sn_qA Q) E := hself _ _ _ _ _ Q h
def rmX10_part (d : Nat) (mc ms : Nat) : Room := { frames := 8 * d + 9, cells := mc, slots := ms, locals := 800 * d + 357 }
/-- SnailPost$Reader.part()LSnailPost$Sum; -/
def wpX10_part (w : sn_W) (self : Nat → sn_S → Nat → Nat → sn_E → (Nat → sn_S → Prop) → Prop) (a0 : Nat) (S : sn_S) (mc : Nat) (ms : Nat) (E : sn_E) (Q : Nat → sn_S → Prop) : Prop :=
  ((∃ fs, sn_oO S a0 10 fs) ∧ wpX10_is w a0 27 S (fun (r10 : Int32) => ((r10 = 0 → (sn_gI S a0 10 3 (fun x11 => ((∃ fs, sn_oO S a0 10 fs) ∧ wpX10_isIn w a0 x11 48 57 S (fun (r12 : Int32) => ((r12 = 0 → ((∃ fs, sn_oO S a0 10 fs) ∧ wpX10_value w a0 S (fun (r13 : Int32) => ((¬ r13 = (-1) → (∃ u14 u15 : Nat, u14 ≤ mc ∧ u15 ≤ ms ∧ ((∃ fs, sn_oO S a0 10 fs) ∧ wpX10_leaf w a0 S u14 u15 E (fun (S16 : sn_S) => ((∃ fs, sn_oO S16 a0 10 fs) ∧ wpX10_next w a0 S16 (fun (S17 : sn_S) => (sn_nw S17 (mc - u14) (ms - u15) 1 (.inr (14, [.int 0])) (fun a18 S19 => wpX15_init w a18 r13 S19 (fun (S20 : sn_S) => Q a18 S20))))))))) ∧ (r13 = (-1) → (sn_nw S mc ms 7 (.inr (11, [.null, .null, .null, .null, .null, .int 0, .int 0])) (fun a21 S22 => (sn_gI S22 a0 10 3 (fun x23 => wpX11_init w a21 x23 S22 (fun (S24 : sn_S) => ((∃ fs, sn_oO S24 a21 11 fs) ∧ E "SnailPost$Fault" a21 S24))))))))))) ∧ (¬ r12 = 0 → (∃ u25 u26 : Nat, u25 ≤ mc ∧ u26 ≤ ms ∧ ((∃ fs, sn_oO S a0 10 fs) ∧ wpX10_leaf w a0 S u25 u26 E (fun (S27 : sn_S) => (sn_nw S27 (mc - u25) (ms - u26) 1 (.inr (13, [.int 0])) (fun a28 S29 => (∃ u30 u31 : Nat, u30 ≤ ((mc - u25) - 1) ∧ u31 ≤ ((ms - u26) - 1) ∧ ((∃ fs, sn_oO S29 a0 10 fs) ∧ wpX10_number w a0 0 1000 S29 u30 u31 E (fun (r32 : Int32) (S33 : sn_S) => wpX14_init w a28 r32 S33 (fun (S34 : sn_S) => Q a28 S34)))))))))))))))) ∧ (¬ r10 = 0 → (∃ u35 u36 : Nat, u35 ≤ mc ∧ u36 ≤ ms ∧ ((∃ fs, sn_oO S a0 10 fs) ∧ wpX10_opens w a0 S u35 u36 E (fun (S37 : sn_S) => (∃ u38 u39 : Nat, u38 ≤ (mc - u35) ∧ u39 ≤ (ms - u36) ∧ ((∃ fs, sn_oO S37 a0 10 fs) ∧ self a0 S37 u38 u39 E (fun (a40 : Nat) (S41 : sn_S) => (∃ u42 u43 : Nat, u42 ≤ ((mc - u35) - u38) ∧ u43 ≤ ((ms - u36) - u39) ∧ ((∃ fs, sn_oO S41 a0 10 fs) ∧ wpX10_need w a0 28 S41 u42 u43 E (fun (S44 : sn_S) => (sn_gI S44 a0 10 6 (fun x45 => (sn_sV S44 a0 10 6 (.int (x45 - 1)) (fun S46 => Q a40 S46)))))))))))))))))
theorem wkX10_part {w : sn_W} {C : sn_C} {d : Nat} {self : Nat → sn_S → Nat → Nat → sn_E → (Nat → sn_S → Prop) → Prop} (hself : okX10_sum w d self) (hO : sn_Ok LoX w C RX10 cX10_part 2 (some (.object "SnailPost$Sum")) [] "part") (a0 : Nat) (S : sn_S) (mc : Nat) (ms : Nat) (E : sn_E) (Q : Nat → sn_S → Prop) : wpX10_part w self a0 S mc ms E Q → sn_G LoX w (rmX10_part d mc ms) (sn_qA Q) E C mc ms 0 [(0, .ref a0)] [] S := by
  unfold wpX10_part
  generalize hQq : (sn_qA Q) = Qq
  refine sn_aload_n hO 0 rfl dX10_part_0 ?_
  refine sn_ldcS hO skX_27 dX10_part_1 ?_
  refine sn_callV (P := (∃ fs, sn_oO S a0 10 fs) ∧ _) hO (c2 := mc) (s2 := ms) (rm := rmX10_is) [.ref (w.2.2.2.2.1 27)] cvX10_48 sn_RvP (fun h => ctX10_is (Nat.le_of_ble_eq_true rfl) h.2) ⟨by simp only [rmX10_is, rmX10_part]; omega, by simp only [rmX10_is, rmX10_part]; omega⟩ rfl rfl (Nat.le_of_ble_eq_true rfl) ⟨Nat.zero_le _, Nat.zero_le _, rfl, rfl⟩ dX10_part_3 (sn_bIp (fun r10 => ?_)) sn_x0
  refine sn_if_eq hO 36 (by decide) dX10_part_6 ?_ ?_
  · refine sn_aload_n hO 0 rfl dX10_part_36 ?_
    refine sn_aload_n hO 0 rfl dX10_part_37 ?_
    refine sn_ogetI hO fX10_31 dX10_part_38 (fun x11 => ?_)
    refine sn_bipush hO kb_48 dX10_part_41 ?_
    refine sn_bipush hO kb_57 dX10_part_43 ?_
    refine sn_callV (P := (∃ fs, sn_oO S a0 10 fs) ∧ _) hO (c2 := mc) (s2 := ms) (rm := rmX10_isIn) [.int x11, .int 48, .int 57] cvX10_34 sn_RvP (fun h => ctX10_isIn h.2) ⟨by simp only [rmX10_isIn, rmX10_part]; omega, by simp only [rmX10_isIn, rmX10_part]; omega⟩ rfl rfl (Nat.le_of_ble_eq_true rfl) ⟨Nat.zero_le _, Nat.zero_le _, rfl, rfl⟩ dX10_part_45 (sn_bIp (fun r12 => ?_)) sn_x0
    refine sn_if_eq hO 71 (by decide) dX10_part_48 ?_ ?_
    · refine sn_aload_n hO 0 rfl dX10_part_71 ?_
      refine sn_callV (P := (∃ fs, sn_oO S a0 10 fs) ∧ _) hO (c2 := mc) (s2 := ms) (rm := rmX10_value) [] cvX10_205 sn_RvP (fun h => ctX10_value h.2) ⟨by simp only [rmX10_part, rmX10_value]; omega, by simp only [rmX10_part, rmX10_value]; omega⟩ rfl rfl (Nat.le_of_ble_eq_true rfl) ⟨Nat.zero_le _, Nat.zero_le _, rfl, rfl⟩ dX10_part_72 (sn_bIp (fun r13 => ?_)) sn_x0
      refine sn_istore_n hO (lv' := [(1, .int r13), (0, .ref a0)]) (by decide) rfl dX10_part_75 ?_
      refine sn_iload_n hO 0 rfl dX10_part_76 ?_
      refine sn_iconst hO kc_m1 dX10_part_77 ?_
      refine sn_icmp_ne hO 93 (by decide) dX10_part_78 ?_ ?_
      · refine sn_aload_n hO 1 rfl dX10_part_93 ?_
        refine sn_bud (fun u14 u15 hu14 hu15 => ?_)
        refine sn_callV (P := (∃ fs, sn_oO S a0 10 fs) ∧ _) hO (c2 := (mc - u14)) (s2 := (ms - u15)) (rm := (rmX10_leaf u14 u15)) [] cvX10_195 sn_RvP (fun h => ctX10_leaf h.2) ⟨by simp only [rmX10_leaf, rmX10_part]; omega, by simp only [rmX10_leaf, rmX10_part]; omega⟩ rfl rfl (Nat.le_of_ble_eq_true rfl) ⟨hu14, hu15, rfl, rfl⟩ dX10_part_94 (sn_bV (fun S16 => ?_)) (sn_xE hO)
        refine sn_aload_n hO 1 rfl dX10_part_97 ?_
        refine sn_callV (P := (∃ fs, sn_oO S16 a0 10 fs) ∧ _) hO (c2 := (mc - u14)) (s2 := (ms - u15)) (rm := rmX10_next) [] cvX10_52 sn_RvP (fun h => ctX10_next h.2) ⟨by simp only [rmX10_next, rmX10_part]; omega, by simp only [rmX10_next, rmX10_part]; omega⟩ rfl rfl (Nat.le_of_ble_eq_true rfl) ⟨Nat.zero_le _, Nat.zero_le _, rfl, rfl⟩ dX10_part_98 (sn_bV (fun S17 => ?_)) sn_x0
        refine sn_new (fs := [.int 0]) hO tyX15 in_X15 tyX15_ok q972 q973 q127 rfl nfX_14 dX10_part_101 (fun a18 S19 => ?_)
        refine sn_dup hO rfl dX10_part_104 ?_
        refine sn_iload_n hO 0 rfl dX10_part_105 ?_
        refine sn_callI (rY := none) hO (c2 := ((mc - u14) - 1)) (s2 := ((ms - u15) - 1)) (rm := rmX15_init) [.int r13] ciX10_210 (fun h => ctX15_init h) ⟨by simp only [rmX10_part, rmX15_init]; omega, by simp only [rmX10_part, rmX15_init]; omega⟩ rfl rfl (Nat.le_of_ble_eq_true rfl) ⟨Nat.zero_le _, Nat.zero_le _, rfl, rfl⟩ dX10_part_106 (sn_bV (fun S20 => ?_)) sn_x0
        subst hQq
        exact sn_aret hO rfl (Or.inl ⟨_, rfl⟩) dX10_part_109
      · refine sn_new (fs := [.null, .null, .null, .null, .null, .int 0, .int 0]) hO tyX11 in_X11 tyX11_ok q873 q874 q123 rfl nfX_11 dX10_part_81 (fun a21 S22 => ?_)
        refine sn_dup hO rfl dX10_part_84 ?_
        refine sn_aload_n hO 1 rfl dX10_part_85 ?_
        refine sn_ogetI hO fX10_31 dX10_part_86 (fun x23 => ?_)
        refine sn_callI (rY := none) hO (c2 := (mc - 1)) (s2 := (ms - 7)) (rm := rmX11_init) [.int x23] ciX10_60 (fun h => ctX11_init h) ⟨by simp only [rmX10_part, rmX11_init]; omega, by simp only [rmX10_part, rmX11_init]; omega⟩ rfl rfl (Nat.le_of_ble_eq_true rfl) ⟨Nat.zero_le _, Nat.zero_le _, rfl, rfl⟩ dX10_part_89 (sn_bV (fun S24 => ?_)) sn_x0
        exact sn_athrowA (ci := 11) hO rfl dX10_part_92 (sn_xout hO)
    · refine sn_aload_n hO 0 rfl dX10_part_51 ?_
      refine sn_bud (fun u25 u26 hu25 hu26 => ?_)
      refine sn_callV (P := (∃ fs, sn_oO S a0 10 fs) ∧ _) hO (c2 := (mc - u25)) (s2 := (ms - u26)) (rm := (rmX10_leaf u25 u26)) [] cvX10_195 sn_RvP (fun h => ctX10_leaf h.2) ⟨by simp only [rmX10_leaf, rmX10_part]; omega, by simp only [rmX10_leaf, rmX10_part]; omega⟩ rfl rfl (Nat.le_of_ble_eq_true rfl) ⟨hu25, hu26, rfl, rfl⟩ dX10_part_52 (sn_bV (fun S27 => ?_)) (sn_xE hO)
      refine sn_new (fs := [.int 0]) hO tyX14 in_X14 tyX14_ok q941 q942 q126 rfl nfX_13 dX10_part_55 (fun a28 S29 => ?_)
      refine sn_dup hO rfl dX10_part_58 ?_
      refine sn_aload_n hO 0 rfl dX10_part_59 ?_
      refine sn_iconst hO kc_0 dX10_part_60 ?_
      refine sn_sipush hO ks_1000 dX10_part_61 ?_
      refine sn_bud (fun u30 u31 hu30 hu31 => ?_)
      refine sn_callV (P := (∃ fs, sn_oO S29 a0 10 fs) ∧ _) hO (c2 := (((mc - u25) - 1) - u30)) (s2 := (((ms - u26) - 1) - u31)) (rm := (rmX10_number u30 u31)) [.int 0, .int 1000] cvX10_200 sn_RvP (fun h => ctX10_number h.2) ⟨by simp only [rmX10_number, rmX10_part]; omega, by simp only [rmX10_number, rmX10_part]; omega⟩ rfl rfl (Nat.le_of_ble_eq_true rfl) ⟨hu30, hu31, rfl, rfl⟩ dX10_part_64 (sn_bI (fun r32 S33 => ?_)) (sn_xE hO)
      refine sn_callI (rY := none) hO (c2 := (((mc - u25) - 1) - u30)) (s2 := (((ms - u26) - 1) - u31)) (rm := rmX14_init) [.int r32] ciX10_204 (fun h => ctX14_init h) ⟨by simp only [rmX10_part, rmX14_init]; omega, by simp only [rmX10_part, rmX14_init]; omega⟩ rfl rfl (Nat.le_of_ble_eq_true rfl) ⟨Nat.zero_le _, Nat.zero_le _, rfl, rfl⟩ dX10_part_67 (sn_bV (fun S34 => ?_)) sn_x0
      subst hQq
      exact sn_aret hO rfl (Or.inl ⟨_, rfl⟩) dX10_part_70
  · refine sn_aload_n hO 0 rfl dX10_part_9 ?_
    refine sn_bud (fun u35 u36 hu35 hu36 => ?_)
    refine sn_callV (P := (∃ fs, sn_oO S a0 10 fs) ∧ _) hO (c2 := (mc - u35)) (s2 := (ms - u36)) (rm := (rmX10_opens u35 u36)) [] cvX10_131 sn_RvP (fun h => ctX10_opens h.2) ⟨by simp only [rmX10_opens, rmX10_part]; omega, by simp only [rmX10_opens, rmX10_part]; omega⟩ rfl rfl (Nat.le_of_ble_eq_true rfl) ⟨hu35, hu36, rfl, rfl⟩ dX10_part_10 (sn_bV (fun S37 => ?_)) (sn_xE hO)
    refine sn_aload_n hO 0 rfl dX10_part_13 ?_
    refine sn_bud (fun u38 u39 hu38 hu39 => ?_)
    refine sn_callV (P := (∃ fs, sn_oO S37 a0 10 fs) ∧ _) hO (c2 := ((mc - u35) - u38)) (s2 := ((ms - u36) - u39)) (rm := (rmX10_sum d u38 u39)) [] cvX10_77 sn_RvP (fun h => okX10_sum.use hself h.2) ⟨by simp only [rmX10_part, rmX10_sum]; omega, by simp only [rmX10_part, rmX10_sum]; omega⟩ rfl rfl (Nat.le_of_ble_eq_true rfl) ⟨hu38, hu39, rfl, rfl⟩ dX10_part_14 (sn_bA (fun a40 S41 => ?_)) (sn_xE hO)
    refine sn_astore_n hO (lv' := [(1, .ref a40), (0, .ref a0)]) (by decide) rfl dX10_part_17 ?_
    refine sn_aload_n hO 1 rfl dX10_part_18 ?_
    refine sn_ldcS hO skX_28 dX10_part_19 ?_
    refine sn_bud (fun u42 u43 hu42 hu43 => ?_)
    refine sn_callV (P := (∃ fs, sn_oO S41 a0 10 fs) ∧ _) hO (c2 := (((mc - u35) - u38) - u42)) (s2 := (((ms - u36) - u39) - u43)) (rm := (rmX10_need u42 u43)) [.ref (w.2.2.2.2.1 28)] cvX10_136 sn_RvP (fun h => ctX10_need (Nat.le_of_ble_eq_true rfl) h.2) ⟨by simp only [rmX10_need, rmX10_part]; omega, by simp only [rmX10_need, rmX10_part]; omega⟩ rfl rfl (Nat.le_of_ble_eq_true rfl) ⟨hu42, hu43, rfl, rfl⟩ dX10_part_21 (sn_bV (fun S44 => ?_)) (sn_xE hO)
    refine sn_aload_n hO 1 rfl dX10_part_24 ?_
    refine sn_dup hO rfl dX10_part_25 ?_
    refine sn_ogetI hO fX10_116 dX10_part_26 (fun x45 => ?_)
    refine sn_iconst hO kc_1 dX10_part_29 ?_
    refine sn_isub hO dX10_part_30 ?_
    refine sn_oput hO fX10_116 rfl rfl dX10_part_31 (fun S46 => ?_)
    refine sn_aload_n hO 0 rfl dX10_part_34 ?_
    subst hQq
    exact sn_aret hO rfl (Or.inl ⟨_, rfl⟩) dX10_part_35
theorem ctX10_part {w : sn_W} {d : Nat} {self : Nat → sn_S → Nat → Nat → sn_E → (Nat → sn_S → Prop) → Prop} (hself : okX10_sum w d self) {a0 : Nat} {S : sn_S} {mc : Nat} {ms : Nat} {E : sn_E} {Q : Nat → sn_S → Prop} (h : wpX10_part w self a0 S mc ms E Q) : sn_Ct LoX w yX10_part (ws_ yX10_part cX10_part 2 (some (.object "SnailPost$Sum"))) (rmX10_part d mc ms) [.ref a0] S (sn_qA Q) E := sn_Ct_of (XX_O w) (by decide) (Nat.le_of_ble_eq_true rfl) RX10 rfl (fun C hO => wkX10_part hself hO a0 S mc ms E Q h)
def rmX10_term (d : Nat) (mc ms : Nat) : Room := { frames := 8 * d + 11, cells := mc, slots := ms, locals := 800 * d + 557 }
/-- SnailPost$Reader.term()LSnailPost$Sum; -/
def wpX10_term (w : sn_W) (self : Nat → sn_S → Nat → Nat → sn_E → (Nat → sn_S → Prop) → Prop) (a0 : Nat) (S : sn_S) (mc : Nat) (ms : Nat) (E : sn_E) (Q : Nat → sn_S → Prop) : Prop :=
  (∃ u10 u11 : Nat, u10 ≤ mc ∧ u11 ≤ ms ∧ ((∃ fs, sn_oO S a0 10 fs) ∧ wpX10_part w self a0 S u10 u11 E (fun (a12 : Nat) (S13 : sn_S) => sn_lp4 (fun (rc18 : Nat → Nat → Nat → sn_S → Prop) (i14 : Nat) (m16 : Nat) (m17 : Nat) (S15 : sn_S) => ((∃ fs, sn_oO S15 a0 10 fs) ∧ wpX10_is w a0 15 S15 (fun (r19 : Int32) => sn_jn (κ := Prop) ((sn_gK w S15 a0 10 0 11 ((sn_gI S15 a0 10 3 (fun x21 => (vp_in x21 400 ∧ sn_lt (UInt32.toInt32 (Int32.toUInt32 (S15.1 11 (x21).toNatClampNeg) % 65536)) (fun x22 => ((∃ fs, sn_oO S15 a0 10 fs) ∧ wpX10_next w a0 S15 (fun (S23 : sn_S) => (sn_nw S23 m16 m17 3 (.inr (15, [.int 0, .null, .null])) (fun a24 S25 => (∃ u26 u27 : Nat, u26 ≤ (m16 - 1) ∧ u27 ≤ (m17 - 3) ∧ ((∃ fs, sn_oO S25 a0 10 fs) ∧ wpX10_part w self a0 S25 u26 u27 E (fun (a28 : Nat) (S29 : sn_S) => wpX16_init w a24 x22 i14 a28 S29 (fun (S30 : sn_S) => rc18 a24 ((m16 - 1) - u26) ((m17 - 3) - u27) S30))))))))))))))) (fun (k20 : Prop) => ((¬ r19 = 0 → k20) ∧ (r19 = 0 → ((∃ fs, sn_oO S15 a0 10 fs) ∧ wpX10_is w a0 16 S15 (fun (r31 : Int32) => ((r31 = 0 → Q i14 S15) ∧ (¬ r31 = 0 → k20)))))))))) a12 (mc - u10) (ms - u11) S13)))
theorem wkX10_term {w : sn_W} {C : sn_C} {d : Nat} {self : Nat → sn_S → Nat → Nat → sn_E → (Nat → sn_S → Prop) → Prop} (hself : okX10_sum w d self) (hO : sn_Ok LoX w C RX10 cX10_term 3 (some (.object "SnailPost$Sum")) [] "term") (a0 : Nat) (S : sn_S) (mc : Nat) (ms : Nat) (E : sn_E) (Q : Nat → sn_S → Prop) : wpX10_term w self a0 S mc ms E Q → sn_G LoX w (rmX10_term d mc ms) (sn_qA Q) E C mc ms 0 [(0, .ref a0)] [] S := by
  unfold wpX10_term
  generalize hQq : (sn_qA Q) = Qq
  refine sn_aload_n hO 0 rfl dX10_term_0 ?_
  refine sn_bud (fun u10 u11 hu10 hu11 => ?_)
  refine sn_callV (P := (∃ fs, sn_oO S a0 10 fs) ∧ _) hO (c2 := (mc - u10)) (s2 := (ms - u11)) (rm := (rmX10_part d u10 u11)) [] cvX10_161 sn_RvP (fun h => ctX10_part hself h.2) ⟨by simp only [rmX10_part, rmX10_term]; omega, by simp only [rmX10_part, rmX10_term]; omega⟩ rfl rfl (Nat.le_of_ble_eq_true rfl) ⟨hu10, hu11, rfl, rfl⟩ dX10_term_1 (sn_bA (fun a12 S13 => ?_)) (sn_xE hO)
  refine sn_astore_n hO (lv' := [(1, .ref a12), (0, .ref a0)]) (by decide) rfl dX10_term_4 ?_
  refine sn_sub [1, 0] rfl ?_
  refine sn_lp4_walk (Gd := fun (i14 : Nat) (m16 : Nat) (m17 : Nat) (S15 : sn_S) => sn_G LoX w (rmX10_term d mc ms) Qq E C m16 m17 5 [(0, .ref a0), (1, .ref i14)] [] S15) ?_ _ _ _ _
  intro rc18 hrc18 i14 m16 m17 S15
  refine sn_aload_n hO 0 rfl dX10_term_5 ?_
  refine sn_ldcS hO skX_15 dX10_term_6 ?_
  refine sn_callV (P := (∃ fs, sn_oO S15 a0 10 fs) ∧ _) hO (c2 := m16) (s2 := m17) (rm := rmX10_is) [.ref (w.2.2.2.2.1 15)] cvX10_48 sn_RvP (fun h => ctX10_is (Nat.le_of_ble_eq_true rfl) h.2) ⟨by simp only [rmX10_is, rmX10_term]; omega, by simp only [rmX10_is, rmX10_term]; omega⟩ rfl rfl (Nat.le_of_ble_eq_true rfl) ⟨Nat.zero_le _, Nat.zero_le _, rfl, rfl⟩ dX10_term_8 (sn_bIp (fun r19 => ?_)) sn_x0
  refine sn_jn_walk (fun (k : Prop) => k → sn_G LoX w (rmX10_term d mc ms) Qq E C m16 m17 23 [(0, .ref a0), (1, .ref i14)] [] S15) ?_ ?_
  · refine sn_aload_n hO 0 rfl dX10_term_23 ?_
    refine sn_ogetK hO fX10_20 dX10_term_24 ?_
    refine sn_aload_n hO 0 rfl dX10_term_27 ?_
    refine sn_ogetI hO fX10_31 dX10_term_28 (fun x21 => ?_)
    refine sn_bald hO atX_11 rfl dX10_term_31 ?_
    refine sn_i2c hO dX10_term_32 ?_
    refine sn_nmI (fun x22 => ?_)
    refine sn_istore_n hO (lv' := [(2, .int x22), (0, .ref a0), (1, .ref i14)]) (by decide) rfl dX10_term_33 ?_
    refine sn_aload_n hO 1 rfl dX10_term_34 ?_
    refine sn_callV (P := (∃ fs, sn_oO S15 a0 10 fs) ∧ _) hO (c2 := m16) (s2 := m17) (rm := rmX10_next) [] cvX10_52 sn_RvP (fun h => ctX10_next h.2) ⟨by simp only [rmX10_next, rmX10_term]; omega, by simp only [rmX10_next, rmX10_term]; omega⟩ rfl rfl (Nat.le_of_ble_eq_true rfl) ⟨Nat.zero_le _, Nat.zero_le _, rfl, rfl⟩ dX10_term_35 (sn_bV (fun S23 => ?_)) sn_x0
    refine sn_new (fs := [.int 0, .null, .null]) hO tyX16 in_X16 tyX16_ok q984 q985 q128 rfl nfX_15 dX10_term_38 (fun a24 S25 => ?_)
    refine sn_dup hO rfl dX10_term_41 ?_
    refine sn_iload_n hO 0 rfl dX10_term_42 ?_
    refine sn_aload_n hO 2 rfl dX10_term_43 ?_
    refine sn_aload_n hO 1 rfl dX10_term_44 ?_
    refine sn_bud (fun u26 u27 hu26 hu27 => ?_)
    refine sn_callV (P := (∃ fs, sn_oO S25 a0 10 fs) ∧ _) hO (c2 := ((m16 - 1) - u26)) (s2 := ((m17 - 3) - u27)) (rm := (rmX10_part d u26 u27)) [] cvX10_161 sn_RvP (fun h => ctX10_part hself h.2) ⟨by simp only [rmX10_part, rmX10_term]; omega, by simp only [rmX10_part, rmX10_term]; omega⟩ rfl rfl (Nat.le_of_ble_eq_true rfl) ⟨hu26, hu27, rfl, rfl⟩ dX10_term_45 (sn_bA (fun a28 S29 => ?_)) (sn_xE hO)
    refine sn_callI (rY := none) hO (c2 := ((m16 - 1) - u26)) (s2 := ((m17 - 3) - u27)) (rm := rmX16_init) [.int x22, .ref i14, .ref a28] ciX10_160 (fun h => ctX16_init h) ⟨by simp only [rmX10_term, rmX16_init]; omega, by simp only [rmX10_term, rmX16_init]; omega⟩ rfl rfl (Nat.le_of_ble_eq_true rfl) ⟨Nat.zero_le _, Nat.zero_le _, rfl, rfl⟩ dX10_term_48 (sn_bV (fun S30 => ?_)) sn_x0
    refine sn_astore_n hO (lv' := [(1, .ref a24), (2, .int x22), (0, .ref a0)]) (by decide) rfl dX10_term_51 ?_
    refine sn_goto hO 5 (by decide) dX10_term_52 ?_
    refine sn_sub [2, 0] rfl ?_
    exact hrc18 _ _ _ _
  · intro k20 hk20
    refine sn_if_ne hO 23 (by decide) dX10_term_11 ?_ ?_
    · exact hk20
    · refine sn_aload_n hO 0 rfl dX10_term_14 ?_
      refine sn_ldcS hO skX_16 dX10_term_15 ?_
      refine sn_callV (P := (∃ fs, sn_oO S15 a0 10 fs) ∧ _) hO (c2 := m16) (s2 := m17) (rm := rmX10_is) [.ref (w.2.2.2.2.1 16)] cvX10_48 sn_RvP (fun h => ctX10_is (Nat.le_of_ble_eq_true rfl) h.2) ⟨by simp only [rmX10_is, rmX10_term]; omega, by simp only [rmX10_is, rmX10_term]; omega⟩ rfl rfl (Nat.le_of_ble_eq_true rfl) ⟨Nat.zero_le _, Nat.zero_le _, rfl, rfl⟩ dX10_term_17 (sn_bIp (fun r31 => ?_)) sn_x0
      refine sn_if_eq hO 55 (by decide) dX10_term_20 ?_ ?_
      · refine sn_aload_n hO 1 rfl dX10_term_55 ?_
        subst hQq
        exact sn_aret hO rfl (Or.inl ⟨_, rfl⟩) dX10_term_56
      · exact hk20
theorem ctX10_term {w : sn_W} {d : Nat} {self : Nat → sn_S → Nat → Nat → sn_E → (Nat → sn_S → Prop) → Prop} (hself : okX10_sum w d self) {a0 : Nat} {S : sn_S} {mc : Nat} {ms : Nat} {E : sn_E} {Q : Nat → sn_S → Prop} (h : wpX10_term w self a0 S mc ms E Q) : sn_Ct LoX w yX10_term (ws_ yX10_term cX10_term 3 (some (.object "SnailPost$Sum"))) (rmX10_term d mc ms) [.ref a0] S (sn_qA Q) E := sn_Ct_of (XX_O w) (by decide) (Nat.le_of_ble_eq_true rfl) RX10 rfl (fun C hO => wkX10_term hself hO a0 S mc ms E Q h)
/-- SnailPost$Reader.sum()LSnailPost$Sum; -/
def wpX10_sumF (w : sn_W) (self : Nat → sn_S → Nat → Nat → sn_E → (Nat → sn_S → Prop) → Prop) (a0 : Nat) (S : sn_S) (mc : Nat) (ms : Nat) (E : sn_E) (Q : Nat → sn_S → Prop) : Prop :=
  (∃ u10 u11 : Nat, u10 ≤ mc ∧ u11 ≤ ms ∧ ((∃ fs, sn_oO S a0 10 fs) ∧ wpX10_term w self a0 S u10 u11 E (fun (a12 : Nat) (S13 : sn_S) => sn_lp4 (fun (rc18 : Nat → Nat → Nat → sn_S → Prop) (i14 : Nat) (m16 : Nat) (m17 : Nat) (S15 : sn_S) => ((∃ fs, sn_oO S15 a0 10 fs) ∧ wpX10_is w a0 13 S15 (fun (r19 : Int32) => sn_jn (κ := Prop) ((sn_gK w S15 a0 10 0 11 ((sn_gI S15 a0 10 3 (fun x21 => (vp_in x21 400 ∧ sn_lt (UInt32.toInt32 (Int32.toUInt32 (S15.1 11 (x21).toNatClampNeg) % 65536)) (fun x22 => ((∃ fs, sn_oO S15 a0 10 fs) ∧ wpX10_next w a0 S15 (fun (S23 : sn_S) => (sn_nw S23 m16 m17 3 (.inr (15, [.int 0, .null, .null])) (fun a24 S25 => (∃ u26 u27 : Nat, u26 ≤ (m16 - 1) ∧ u27 ≤ (m17 - 3) ∧ ((∃ fs, sn_oO S25 a0 10 fs) ∧ wpX10_term w self a0 S25 u26 u27 E (fun (a28 : Nat) (S29 : sn_S) => wpX16_init w a24 x22 i14 a28 S29 (fun (S30 : sn_S) => rc18 a24 ((m16 - 1) - u26) ((m17 - 3) - u27) S30))))))))))))))) (fun (k20 : Prop) => ((¬ r19 = 0 → k20) ∧ (r19 = 0 → ((∃ fs, sn_oO S15 a0 10 fs) ∧ wpX10_is w a0 14 S15 (fun (r31 : Int32) => ((r31 = 0 → Q i14 S15) ∧ (¬ r31 = 0 → k20)))))))))) a12 (mc - u10) (ms - u11) S13)))
theorem wkX10_sum {w : sn_W} {C : sn_C} {d : Nat} {self : Nat → sn_S → Nat → Nat → sn_E → (Nat → sn_S → Prop) → Prop} (hself : okX10_sum w d self) (hO : sn_Ok LoX w C RX10 cX10_sum 3 (some (.object "SnailPost$Sum")) [] "sum") (a0 : Nat) (S : sn_S) (mc : Nat) (ms : Nat) (E : sn_E) (Q : Nat → sn_S → Prop) : wpX10_sumF w self a0 S mc ms E Q → sn_G LoX w (rmX10_sum (d + 1) mc ms) (sn_qA Q) E C mc ms 0 [(0, .ref a0)] [] S := by
  unfold wpX10_sumF
  generalize hQq : (sn_qA Q) = Qq
  refine sn_aload_n hO 0 rfl dX10_sum_0 ?_
  refine sn_bud (fun u10 u11 hu10 hu11 => ?_)
  refine sn_callV (P := (∃ fs, sn_oO S a0 10 fs) ∧ _) hO (c2 := (mc - u10)) (s2 := (ms - u11)) (rm := (rmX10_term d u10 u11)) [] cvX10_151 sn_RvP (fun h => ctX10_term hself h.2) ⟨by simp only [rmX10_sum, rmX10_term]; omega, by simp only [rmX10_sum, rmX10_term]; omega⟩ rfl rfl (Nat.le_of_ble_eq_true rfl) ⟨hu10, hu11, rfl, rfl⟩ dX10_sum_1 (sn_bA (fun a12 S13 => ?_)) (sn_xE hO)
  refine sn_astore_n hO (lv' := [(1, .ref a12), (0, .ref a0)]) (by decide) rfl dX10_sum_4 ?_
  refine sn_sub [1, 0] rfl ?_
  refine sn_lp4_walk (Gd := fun (i14 : Nat) (m16 : Nat) (m17 : Nat) (S15 : sn_S) => sn_G LoX w (rmX10_sum (d + 1) mc ms) Qq E C m16 m17 5 [(0, .ref a0), (1, .ref i14)] [] S15) ?_ _ _ _ _
  intro rc18 hrc18 i14 m16 m17 S15
  refine sn_aload_n hO 0 rfl dX10_sum_5 ?_
  refine sn_ldcS hO skX_13 dX10_sum_6 ?_
  refine sn_callV (P := (∃ fs, sn_oO S15 a0 10 fs) ∧ _) hO (c2 := m16) (s2 := m17) (rm := rmX10_is) [.ref (w.2.2.2.2.1 13)] cvX10_48 sn_RvP (fun h => ctX10_is (Nat.le_of_ble_eq_true rfl) h.2) ⟨by simp only [rmX10_is, rmX10_sum]; omega, by simp only [rmX10_is, rmX10_sum]; omega⟩ rfl rfl (Nat.le_of_ble_eq_true rfl) ⟨Nat.zero_le _, Nat.zero_le _, rfl, rfl⟩ dX10_sum_8 (sn_bIp (fun r19 => ?_)) sn_x0
  refine sn_jn_walk (fun (k : Prop) => k → sn_G LoX w (rmX10_sum (d + 1) mc ms) Qq E C m16 m17 23 [(0, .ref a0), (1, .ref i14)] [] S15) ?_ ?_
  · refine sn_aload_n hO 0 rfl dX10_sum_23 ?_
    refine sn_ogetK hO fX10_20 dX10_sum_24 ?_
    refine sn_aload_n hO 0 rfl dX10_sum_27 ?_
    refine sn_ogetI hO fX10_31 dX10_sum_28 (fun x21 => ?_)
    refine sn_bald hO atX_11 rfl dX10_sum_31 ?_
    refine sn_i2c hO dX10_sum_32 ?_
    refine sn_nmI (fun x22 => ?_)
    refine sn_istore_n hO (lv' := [(2, .int x22), (0, .ref a0), (1, .ref i14)]) (by decide) rfl dX10_sum_33 ?_
    refine sn_aload_n hO 1 rfl dX10_sum_34 ?_
    refine sn_callV (P := (∃ fs, sn_oO S15 a0 10 fs) ∧ _) hO (c2 := m16) (s2 := m17) (rm := rmX10_next) [] cvX10_52 sn_RvP (fun h => ctX10_next h.2) ⟨by simp only [rmX10_next, rmX10_sum]; omega, by simp only [rmX10_next, rmX10_sum]; omega⟩ rfl rfl (Nat.le_of_ble_eq_true rfl) ⟨Nat.zero_le _, Nat.zero_le _, rfl, rfl⟩ dX10_sum_35 (sn_bV (fun S23 => ?_)) sn_x0
    refine sn_new (fs := [.int 0, .null, .null]) hO tyX16 in_X16 tyX16_ok q984 q985 q128 rfl nfX_15 dX10_sum_38 (fun a24 S25 => ?_)
    refine sn_dup hO rfl dX10_sum_41 ?_
    refine sn_iload_n hO 0 rfl dX10_sum_42 ?_
    refine sn_aload_n hO 2 rfl dX10_sum_43 ?_
    refine sn_aload_n hO 1 rfl dX10_sum_44 ?_
    refine sn_bud (fun u26 u27 hu26 hu27 => ?_)
    refine sn_callV (P := (∃ fs, sn_oO S25 a0 10 fs) ∧ _) hO (c2 := ((m16 - 1) - u26)) (s2 := ((m17 - 3) - u27)) (rm := (rmX10_term d u26 u27)) [] cvX10_151 sn_RvP (fun h => ctX10_term hself h.2) ⟨by simp only [rmX10_sum, rmX10_term]; omega, by simp only [rmX10_sum, rmX10_term]; omega⟩ rfl rfl (Nat.le_of_ble_eq_true rfl) ⟨hu26, hu27, rfl, rfl⟩ dX10_sum_45 (sn_bA (fun a28 S29 => ?_)) (sn_xE hO)
    refine sn_callI (rY := none) hO (c2 := ((m16 - 1) - u26)) (s2 := ((m17 - 3) - u27)) (rm := rmX16_init) [.int x22, .ref i14, .ref a28] ciX10_160 (fun h => ctX16_init h) ⟨by simp only [rmX10_sum, rmX16_init]; omega, by simp only [rmX10_sum, rmX16_init]; omega⟩ rfl rfl (Nat.le_of_ble_eq_true rfl) ⟨Nat.zero_le _, Nat.zero_le _, rfl, rfl⟩ dX10_sum_48 (sn_bV (fun S30 => ?_)) sn_x0
    refine sn_astore_n hO (lv' := [(1, .ref a24), (2, .int x22), (0, .ref a0)]) (by decide) rfl dX10_sum_51 ?_
    refine sn_goto hO 5 (by decide) dX10_sum_52 ?_
    refine sn_sub [2, 0] rfl ?_
    exact hrc18 _ _ _ _
  · intro k20 hk20
    refine sn_if_ne hO 23 (by decide) dX10_sum_11 ?_ ?_
    · exact hk20
    · refine sn_aload_n hO 0 rfl dX10_sum_14 ?_
      refine sn_ldcS hO skX_14 dX10_sum_15 ?_
      refine sn_callV (P := (∃ fs, sn_oO S15 a0 10 fs) ∧ _) hO (c2 := m16) (s2 := m17) (rm := rmX10_is) [.ref (w.2.2.2.2.1 14)] cvX10_48 sn_RvP (fun h => ctX10_is (Nat.le_of_ble_eq_true rfl) h.2) ⟨by simp only [rmX10_is, rmX10_sum]; omega, by simp only [rmX10_is, rmX10_sum]; omega⟩ rfl rfl (Nat.le_of_ble_eq_true rfl) ⟨Nat.zero_le _, Nat.zero_le _, rfl, rfl⟩ dX10_sum_17 (sn_bIp (fun r31 => ?_)) sn_x0
      refine sn_if_eq hO 55 (by decide) dX10_sum_20 ?_ ?_
      · refine sn_aload_n hO 1 rfl dX10_sum_55 ?_
        subst hQq
        exact sn_aret hO rfl (Or.inl ⟨_, rfl⟩) dX10_sum_56
      · exact hk20
def wpX10_sum (w : sn_W) : Nat → Nat → sn_S → Nat → Nat → sn_E → (Nat → sn_S → Prop) → Prop
  | 0 => fun _ _ _ _ _ _ => False
  | d + 1 => wpX10_sumF w (wpX10_sum w d)
theorem okX10_sum_all {w : sn_W} : ∀ d : Nat, okX10_sum w d (wpX10_sum w d)
  | 0 => fun _ _ _ _ _ _ => fun h => h.elim
  | d + 1 => fun a0 S mc ms E Q h => sn_Ct_of (XX_O w) (by decide) (Nat.le_of_ble_eq_true rfl) RX10 rfl (fun C hO => wkX10_sum (okX10_sum_all d) hO a0 S mc ms E Q h)
theorem ctX10_sum {w : sn_W} (d : Nat) {a0 : Nat} {S : sn_S} {mc : Nat} {ms : Nat} {E : sn_E} {Q : Nat → sn_S → Prop} (h : wpX10_sum w d a0 S mc ms E Q) : sn_Ct LoX w yX10_sum (ws_ yX10_sum cX10_sum 3 (some (.object "SnailPost$Sum"))) (rmX10_sum d mc ms) [.ref a0] S (sn_qA Q) E := okX10_sum_all d _ _ _ _ _ Q h
def rmX17_init : Room := { frames := 1, cells := 0, slots := 0, locals := 64 }
/-- SnailPost$Test.<init>()V -/
def wpX17_init (w : sn_W) (a0 : Nat) (S : sn_S) (Q : Prop) : Prop :=
  Q
theorem wkX17_init {w : sn_W} {C : sn_C} (hO : sn_Ok LoX w C RX17 cX17_init 1 none [] "<init>") (a0 : Nat) (S : sn_S) (Q : Prop) : wpX17_init w a0 S Q → sn_G LoX w rmX17_init (sn_qV (fun S1 => S1 = S ∧ Q)) sn_noE C 0 0 0 [(0, .ref a0)] [] S := by
  unfold wpX17_init
  generalize hQq : (sn_qV (fun S1 => S1 = S ∧ Q)) = Qq
  refine sn_aload_n hO 0 rfl dX17_init_0 ?_
  refine sn_objInit hO q1033 q146 q147 ⟨Nat.le_of_ble_eq_true rfl, Nat.le_of_ble_eq_true rfl⟩ dX17_init_1 ?_
  subst hQq
  exact fun h => sn_vret hO rfl dX17_init_4 ⟨rfl, h⟩
theorem ctX17_init {w : sn_W} {a0 : Nat} {S : sn_S} {Q : Prop} (h : wpX17_init w a0 S Q) : sn_Ct LoX w yX17_init (ws_ yX17_init cX17_init 1 none) rmX17_init [.ref a0] S (sn_qV (fun S1 => S1 = S ∧ Q)) sn_noE := sn_Ct_of (XX_O w) (by decide) (Nat.le_of_ble_eq_true rfl) RX17 rfl (fun C hO => wkX17_init hO a0 S Q h)
def rmX18_init : Room := { frames := 2, cells := 0, slots := 0, locals := 84 }
/-- SnailPost$Compare.<init>(CLSnailPost$Sum;LSnailPost$Sum;)V -/
def wpX18_init (w : sn_W) (a0 : Nat) (p1 : Int32) (a2 : Nat) (a3 : Nat) (S : sn_S) (Q : sn_S → Prop) : Prop :=
  wpX17_init w a0 S (((narrow (tyX18 0) (.int p1) = (.int p1) ∧ fits (tyX18 0) (.int p1) = true) ∧ (sn_sV S a0 16 0 (.int p1) (fun S10 => (sn_sV S10 a0 16 1 (.ref a2) (fun S11 => (sn_sV S11 a0 16 2 (.ref a3) (fun S12 => Q S12))))))))
theorem wkX18_init {w : sn_W} {C : sn_C} (hO : sn_Ok LoX w C RX18 cX18_init 4 none [] "<init>") (a0 : Nat) (p1 : Int32) (a2 : Nat) (a3 : Nat) (S : sn_S) (Q : sn_S → Prop) : wpX18_init w a0 p1 a2 a3 S Q → sn_G LoX w rmX18_init (sn_qV Q) sn_noE C 0 0 0 [(0, .ref a0), (1, .int p1), (2, .ref a2), (3, .ref a3)] [] S := by
  unfold wpX18_init
  generalize hQq : (sn_qV Q) = Qq
  refine sn_aload_n hO 0 rfl dX18_init_0 ?_
  refine sn_callIN (rY := none) hO (c2 := 0) (s2 := 0) (rm := rmX17_init) [] ciX18_1 (fun h => ctX17_init h) ⟨Nat.le_of_ble_eq_true rfl, Nat.le_of_ble_eq_true rfl⟩ rfl rfl (Nat.le_of_ble_eq_true rfl) ⟨Nat.le_of_ble_eq_true rfl, Nat.le_of_ble_eq_true rfl, rfl, rfl⟩ dX18_init_1 (sn_bVp ?_) sn_x0
  refine sn_aload_n hO 0 rfl dX18_init_4 ?_
  refine sn_iload_n hO 1 rfl dX18_init_5 ?_
  refine sn_oputFP hO fX18_7 (fun _ _ _ h => by cases h; rfl) dX18_init_6 (fun S10 => ?_)
  refine sn_aload_n hO 0 rfl dX18_init_9 ?_
  refine sn_aload_n hO 2 rfl dX18_init_10 ?_
  refine sn_oputF hO fX18_13 (fun _ _ _ h => by cases h; rfl) rfl rfl dX18_init_11 (fun S11 => ?_)
  refine sn_aload_n hO 0 rfl dX18_init_14 ?_
  refine sn_aload_n hO 3 rfl dX18_init_15 ?_
  refine sn_oputF hO fX18_17 (fun _ _ _ h => by cases h; rfl) rfl rfl dX18_init_16 (fun S12 => ?_)
  subst hQq
  exact sn_vret hO rfl dX18_init_19
theorem ctX18_init {w : sn_W} {a0 : Nat} {p1 : Int32} {a2 : Nat} {a3 : Nat} {S : sn_S} {Q : sn_S → Prop} (h : wpX18_init w a0 p1 a2 a3 S Q) : sn_Ct LoX w yX18_init (ws_ yX18_init cX18_init 4 none) rmX18_init [.ref a0, .int p1, .ref a2, .ref a3] S (sn_qV Q) sn_noE := sn_Ct_of (XX_O w) (by decide) (Nat.le_of_ble_eq_true rfl) RX18 rfl (fun C hO => wkX18_init hO a0 p1 a2 a3 S Q h)
def rmX19_init : Room := { frames := 2, cells := 0, slots := 0, locals := 84 }
/-- SnailPost$Not.<init>(LSnailPost$Test;)V -/
def wpX19_init (w : sn_W) (a0 : Nat) (a1 : Nat) (S : sn_S) (Q : sn_S → Prop) : Prop :=
  wpX17_init w a0 S ((sn_sV S a0 17 0 (.ref a1) (fun S10 => Q S10)))
theorem wkX19_init {w : sn_W} {C : sn_C} (hO : sn_Ok LoX w C RX19 cX19_init 2 none [] "<init>") (a0 : Nat) (a1 : Nat) (S : sn_S) (Q : sn_S → Prop) : wpX19_init w a0 a1 S Q → sn_G LoX w rmX19_init (sn_qV Q) sn_noE C 0 0 0 [(0, .ref a0), (1, .ref a1)] [] S := by
  unfold wpX19_init
  generalize hQq : (sn_qV Q) = Qq
  refine sn_aload_n hO 0 rfl dX19_init_0 ?_
  refine sn_callIN (rY := none) hO (c2 := 0) (s2 := 0) (rm := rmX17_init) [] ciX19_1 (fun h => ctX17_init h) ⟨Nat.le_of_ble_eq_true rfl, Nat.le_of_ble_eq_true rfl⟩ rfl rfl (Nat.le_of_ble_eq_true rfl) ⟨Nat.le_of_ble_eq_true rfl, Nat.le_of_ble_eq_true rfl, rfl, rfl⟩ dX19_init_1 (sn_bVp ?_) sn_x0
  refine sn_aload_n hO 0 rfl dX19_init_4 ?_
  refine sn_aload_n hO 1 rfl dX19_init_5 ?_
  refine sn_oputF hO fX19_7 (fun _ _ _ h => by cases h; rfl) rfl rfl dX19_init_6 (fun S10 => ?_)
  subst hQq
  exact sn_vret hO rfl dX19_init_9
theorem ctX19_init {w : sn_W} {a0 : Nat} {a1 : Nat} {S : sn_S} {Q : sn_S → Prop} (h : wpX19_init w a0 a1 S Q) : sn_Ct LoX w yX19_init (ws_ yX19_init cX19_init 2 none) rmX19_init [.ref a0, .ref a1] S (sn_qV Q) sn_noE := sn_Ct_of (XX_O w) (by decide) (Nat.le_of_ble_eq_true rfl) RX19 rfl (fun C hO => wkX19_init hO a0 a1 S Q h)
def rmX20_init (mc ms : Nat) : Room := { frames := 4, cells := mc, slots := ms, locals := 125 }
/-- SnailPost$Several.<init>(Z)V -/
def wpX20_init (w : sn_W) (a0 : Nat) (p1 : Int32) (S : sn_S) (mc : Nat) (ms : Nat) (Q : sn_S → Prop) : Prop :=
  wpX17_init w a0 S ((sn_nw S mc ms 3 (.inr (9, [.int 0, .null, .int 0])) (fun a10 S11 => (∃ u12 u13 : Nat, u12 ≤ (mc - 1) ∧ u13 ≤ (ms - 3) ∧ wpJ2_init w a10 2 S11 u12 u13 (fun (S14 : sn_S) => (sn_sV S14 a0 18 1 (.ref a10) (fun S15 => ((narrow (tyX20 0) (.int p1) = (.int p1) ∧ fits (tyX20 0) (.int p1) = true) ∧ (sn_sV S15 a0 18 0 (.int p1) (fun S16 => Q S16))))))))))
theorem wkX20_init {w : sn_W} {C : sn_C} (hO : sn_Ok LoX w C RX20 cX20_init 2 none [] "<init>") (a0 : Nat) (p1 : Int32) (S : sn_S) (mc : Nat) (ms : Nat) (Q : sn_S → Prop) : wpX20_init w a0 p1 S mc ms Q → sn_G LoX w (rmX20_init mc ms) (sn_qV Q) sn_noE C mc ms 0 [(0, .ref a0), (1, .int p1)] [] S := by
  unfold wpX20_init
  generalize hQq : (sn_qV Q) = Qq
  refine sn_aload_n hO 0 rfl dX20_init_0 ?_
  refine sn_callIN (rY := none) hO (c2 := mc) (s2 := ms) (rm := rmX17_init) [] ciX20_1 (fun h => ctX17_init h) ⟨Nat.le_of_ble_eq_true rfl, Nat.le_of_ble_eq_true rfl⟩ rfl rfl (Nat.le_of_ble_eq_true rfl) ⟨Nat.zero_le _, Nat.zero_le _, rfl, rfl⟩ dX20_init_1 (sn_bVp ?_) sn_x0
  refine sn_aload_n hO 0 rfl dX20_init_4 ?_
  refine sn_new (fs := [.int 0, .null, .int 0]) hO tyJ2 in_J2 tyJ2_ok q1061 q155 q107 rfl nfX_9 dX20_init_5 (fun a10 S11 => ?_)
  refine sn_dup hO rfl dX20_init_8 ?_
  refine sn_iconst hO kc_2 dX20_init_9 ?_
  refine sn_bud (fun u12 u13 hu12 hu13 => ?_)
  refine sn_callI (rY := none) hO (c2 := ((mc - 1) - u12)) (s2 := ((ms - 3) - u13)) (rm := (rmJ2_init u12 u13)) [.int 2] ciX20_9 (fun h => ctJ2_init h) ⟨Nat.le_of_ble_eq_true rfl, Nat.le_of_ble_eq_true rfl⟩ rfl rfl (Nat.le_of_ble_eq_true rfl) ⟨hu12, hu13, rfl, rfl⟩ dX20_init_10 (sn_bV (fun S14 => ?_)) sn_x0
  refine sn_oputF hO fX20_12 (fun _ _ _ h => by cases h; rfl) rfl rfl dX20_init_13 (fun S15 => ?_)
  refine sn_aload_n hO 0 rfl dX20_init_16 ?_
  refine sn_iload_n hO 1 rfl dX20_init_17 ?_
  refine sn_oputFP hO fX20_18 (fun _ _ _ h => by cases h; rfl) dX20_init_18 (fun S16 => ?_)
  subst hQq
  exact sn_vret hO rfl dX20_init_21
theorem ctX20_init {w : sn_W} {a0 : Nat} {p1 : Int32} {S : sn_S} {mc : Nat} {ms : Nat} {Q : sn_S → Prop} (h : wpX20_init w a0 p1 S mc ms Q) : sn_Ct LoX w yX20_init (ws_ yX20_init cX20_init 2 none) (rmX20_init mc ms) [.ref a0, .int p1] S (sn_qV Q) sn_noE := sn_Ct_of (XX_O w) (by decide) (Nat.le_of_ble_eq_true rfl) RX20 rfl (fun C hO => wkX20_init hO a0 p1 S mc ms Q h)
def rmJ2_grow_2 (mc ms : Nat) : Room := { frames := 4, cells := mc, slots := ms, locals := 131 }
/-- java/util/ArrayList.grow()[Ljava/lang/Object; -/
def wpJ2_grow_2 (w : sn_W) (a0 : Nat) (S : sn_S) (mc : Nat) (ms : Nat) (Q : Nat → sn_S → Prop) : Prop :=
  (sn_gI S a0 9 2 (fun x10 => (∃ u11 u12 : Nat, u11 ≤ mc ∧ u12 ≤ ms ∧ ((∃ fs, sn_oO S a0 9 fs) ∧ wpJ2_grow w a0 (x10 + 1) S u11 u12 (fun (a13 : Nat) (S14 : sn_S) => Q a13 S14)))))
theorem wkJ2_grow_2 {w : sn_W} {C : sn_C} (hO : sn_Ok LoX w C RJ2 cJ2_grow_2 1 (some (.array (.object "java/lang/Object"))) [] "grow") (a0 : Nat) (S : sn_S) (mc : Nat) (ms : Nat) (Q : Nat → sn_S → Prop) : wpJ2_grow_2 w a0 S mc ms Q → sn_G LoX w (rmJ2_grow_2 mc ms) (sn_qA Q) sn_noE C mc ms 0 [(0, .ref a0)] [] S := by
  unfold wpJ2_grow_2
  generalize hQq : (sn_qA Q) = Qq
  refine sn_aload_n hO 0 rfl dJ2_grow_2_0 ?_
  refine sn_aload_n hO 0 rfl dJ2_grow_2_1 ?_
  refine sn_ogetI hO fJ2_48 dJ2_grow_2_2 (fun x10 => ?_)
  refine sn_iconst hO kc_1 dJ2_grow_2_5 ?_
  refine sn_iadd hO dJ2_grow_2_6 ?_
  refine sn_bud (fun u11 u12 hu11 hu12 => ?_)
  refine sn_callV (P := (∃ fs, sn_oO S a0 9 fs) ∧ _) hO (c2 := (mc - u11)) (s2 := (ms - u12)) (rm := (rmJ2_grow u11 u12)) [.int (x10 + 1)] cvJ2_69 sn_RvP (fun h => ctJ2_grow h.2) ⟨Nat.le_of_ble_eq_true rfl, Nat.le_of_ble_eq_true rfl⟩ rfl rfl (Nat.le_of_ble_eq_true rfl) ⟨hu11, hu12, rfl, rfl⟩ dJ2_grow_2_7 (sn_bA (fun a13 S14 => ?_)) sn_x0
  subst hQq
  exact sn_aret hO rfl (Or.inr ⟨_, rfl⟩) dJ2_grow_2_10
theorem ctJ2_grow_2 {w : sn_W} {a0 : Nat} {S : sn_S} {mc : Nat} {ms : Nat} {Q : Nat → sn_S → Prop} (h : wpJ2_grow_2 w a0 S mc ms Q) : sn_Ct LoX w yJ2_grow_2 (ws_ yJ2_grow_2 cJ2_grow_2 1 (some (.array (.object "java/lang/Object")))) (rmJ2_grow_2 mc ms) [.ref a0] S (sn_qA Q) sn_noE := sn_Ct_of (XX_O w) (by decide) (Nat.le_of_ble_eq_true rfl) RJ2 rfl (fun C hO => wkJ2_grow_2 hO a0 S mc ms Q h)
def rmJ2_add_2 (mc ms : Nat) : Room := { frames := 5, cells := mc, slots := ms, locals := 151 }
/-- java/util/ArrayList.add(Ljava/lang/Object;[Ljava/lang/Object;I)V -/
def wpJ2_add_2 (w : sn_W) (a0 : Nat) (a1 : Nat) (a2 : Nat) (p3 : Int32) (S : sn_S) (mc : Nat) (ms : Nat) (Q : sn_S → Prop) : Prop :=
  (sn_al w S a2 4 (fun x10 => sn_jn (fun (v11 : Nat) (m13 : Nat) (m14 : Nat) (S12 : sn_S) => ((∃ ci fs, sn_oO S12 a1 ci fs) ∧ sn_uQ w S12 v11 4 p3 (some a1) (fun S16 => (sn_sV S16 a0 9 2 (.int (p3 + 1)) (fun S17 => Q S17))))) (fun (k15 : Nat → Nat → Nat → sn_S → Prop) => ((¬ p3 = x10 → k15 a2 mc ms S) ∧ (p3 = x10 → (∃ u18 u19 : Nat, u18 ≤ mc ∧ u19 ≤ ms ∧ ((∃ fs, sn_oO S a0 9 fs) ∧ wpJ2_grow_2 w a0 S u18 u19 (fun (a20 : Nat) (S21 : sn_S) => k15 a20 (mc - u18) (ms - u19) S21))))))))
theorem wkJ2_add_2 {w : sn_W} {C : sn_C} (hO : sn_Ok LoX w C RJ2 cJ2_add_2 4 none [] "add") (a0 : Nat) (a1 : Nat) (a2 : Nat) (p3 : Int32) (S : sn_S) (mc : Nat) (ms : Nat) (Q : sn_S → Prop) : wpJ2_add_2 w a0 a1 a2 p3 S mc ms Q → sn_G LoX w (rmJ2_add_2 mc ms) (sn_qV Q) sn_noE C mc ms 0 [(0, .ref a0), (1, .ref a1), (2, .ref a2), (3, .int p3)] [] S := by
  unfold wpJ2_add_2
  generalize hQq : (sn_qV Q) = Qq
  refine sn_iload_n hO 3 rfl dJ2_add_2_0 ?_
  refine sn_aload_n hO 2 rfl dJ2_add_2_1 ?_
  refine sn_oalen (t := 4) hO rfl dJ2_add_2_2 (fun x10 => ?_)
  refine sn_jn_walk (fun (k : Nat → Nat → Nat → sn_S → Prop) => ∀ (v11 : Nat) (m13 : Nat) (m14 : Nat) (S12 : sn_S), k v11 m13 m14 S12 → sn_G LoX w (rmJ2_add_2 mc ms) Qq sn_noE C m13 m14 11 [(0, .ref a0), (1, .ref a1), (2, .ref v11), (3, .int p3)] [] S12) ?_ ?_
  · intro v11 m13 m14 S12
    refine sn_aload_n hO 2 rfl dJ2_add_2_11 ?_
    refine sn_iload_n hO 3 rfl dJ2_add_2_12 ?_
    refine sn_aload_n hO 1 rfl dJ2_add_2_13 ?_
    refine sn_oastP hO rfl anyX dJ2_add_2_14 (fun S16 => ?_)
    refine sn_aload_n hO 0 rfl dJ2_add_2_15 ?_
    refine sn_iload_n hO 3 rfl dJ2_add_2_16 ?_
    refine sn_iconst hO kc_1 dJ2_add_2_17 ?_
    refine sn_iadd hO dJ2_add_2_18 ?_
    refine sn_oput hO fJ2_48 rfl rfl dJ2_add_2_19 (fun S17 => ?_)
    subst hQq
    exact sn_vret hO rfl dJ2_add_2_22
  · intro k15 hk15
    refine sn_icmp_ne hO 11 (by decide) dJ2_add_2_3 ?_ ?_
    · exact hk15 _ _ _ _
    · refine sn_aload_n hO 0 rfl dJ2_add_2_6 ?_
      refine sn_bud (fun u18 u19 hu18 hu19 => ?_)
      refine sn_callV (P := (∃ fs, sn_oO S a0 9 fs) ∧ _) hO (c2 := (mc - u18)) (s2 := (ms - u19)) (rm := (rmJ2_grow_2 u18 u19)) [] cvJ2_129 sn_RvP (fun h => ctJ2_grow_2 h.2) ⟨Nat.le_of_ble_eq_true rfl, Nat.le_of_ble_eq_true rfl⟩ rfl rfl (Nat.le_of_ble_eq_true rfl) ⟨hu18, hu19, rfl, rfl⟩ dJ2_add_2_7 (sn_bA (fun a20 S21 => ?_)) sn_x0
      refine sn_astore_n hO (lv' := [(2, .ref a20), (0, .ref a0), (1, .ref a1), (3, .int p3)]) (by decide) rfl dJ2_add_2_10 ?_
      refine sn_sub [1, 2, 0, 3] rfl ?_
      exact hk15 _ _ _ _
theorem ctJ2_add_2 {w : sn_W} {a0 : Nat} {a1 : Nat} {a2 : Nat} {p3 : Int32} {S : sn_S} {mc : Nat} {ms : Nat} {Q : sn_S → Prop} (h : wpJ2_add_2 w a0 a1 a2 p3 S mc ms Q) : sn_Ct LoX w yJ2_add_2 (ws_ yJ2_add_2 cJ2_add_2 4 none) (rmJ2_add_2 mc ms) [.ref a0, .ref a1, .ref a2, .int p3] S (sn_qV Q) sn_noE := sn_Ct_of (XX_O w) (by decide) (Nat.le_of_ble_eq_true rfl) RJ2 rfl (fun C hO => wkJ2_add_2 hO a0 a1 a2 p3 S mc ms Q h)
def rmJ2_add (mc ms : Nat) : Room := { frames := 6, cells := mc, slots := ms, locals := 174 }
/-- java/util/ArrayList.add(Ljava/lang/Object;)Z -/
def wpJ2_add (w : sn_W) (a0 : Nat) (a1 : Nat) (S : sn_S) (mc : Nat) (ms : Nat) (Q : Int32 → sn_S → Prop) : Prop :=
  (sn_gI S a0 9 0 (fun x10 => (sn_sV S a0 9 0 (.int (x10 + 1)) (fun S11 => (sn_gA S11 a0 9 1 (fun a12 => (sn_gI S11 a0 9 2 (fun x13 => (∃ u14 u15 : Nat, u14 ≤ mc ∧ u15 ≤ ms ∧ ((∃ fs, sn_oO S11 a0 9 fs) ∧ wpJ2_add_2 w a0 a1 a12 x13 S11 u14 u15 (fun (S16 : sn_S) => Q 1 S16)))))))))))
theorem wkJ2_add {w : sn_W} {C : sn_C} (hO : sn_Ok LoX w C RJ2 cJ2_add 2 (some .boolean) [] "add") (a0 : Nat) (a1 : Nat) (S : sn_S) (mc : Nat) (ms : Nat) (Q : Int32 → sn_S → Prop) : wpJ2_add w a0 a1 S mc ms Q → sn_G LoX w (rmJ2_add mc ms) (sn_qI Q) sn_noE C mc ms 0 [(0, .ref a0), (1, .ref a1)] [] S := by
  unfold wpJ2_add
  generalize hQq : (sn_qI Q) = Qq
  refine sn_aload_n hO 0 rfl dJ2_add_0 ?_
  refine sn_dup hO rfl dJ2_add_1 ?_
  refine sn_ogetS hO fJ2_63 dJ2_add_2 (fun x10 => ?_)
  refine sn_iconst hO kc_1 dJ2_add_5 ?_
  refine sn_iadd hO dJ2_add_6 ?_
  refine sn_oputS hO fJ2_63 rfl rfl dJ2_add_7 (fun S11 => ?_)
  refine sn_aload_n hO 0 rfl dJ2_add_10 ?_
  refine sn_aload_n hO 1 rfl dJ2_add_11 ?_
  refine sn_aload_n hO 0 rfl dJ2_add_12 ?_
  refine sn_ogetA hO fJ2_9 dJ2_add_13 (fun a12 => ?_)
  refine sn_aload_n hO 0 rfl dJ2_add_16 ?_
  refine sn_ogetI hO fJ2_48 dJ2_add_17 (fun x13 => ?_)
  refine sn_bud (fun u14 u15 hu14 hu15 => ?_)
  refine sn_callV (P := (∃ fs, sn_oO S11 a0 9 fs) ∧ _) hO (c2 := (mc - u14)) (s2 := (ms - u15)) (rm := (rmJ2_add_2 u14 u15)) [.ref a1, .ref a12, .int x13] cvJ2_131 sn_RvP (fun h => ctJ2_add_2 h.2) ⟨Nat.le_of_ble_eq_true rfl, Nat.le_of_ble_eq_true rfl⟩ rfl rfl (Nat.le_of_ble_eq_true rfl) ⟨hu14, hu15, rfl, rfl⟩ dJ2_add_20 (sn_bV (fun S16 => ?_)) sn_x0
  refine sn_iconst hO kc_1 dJ2_add_23 ?_
  subst hQq
  exact sn_zret hO (ty := .boolean) rfl rfl dJ2_add_24
theorem ctJ2_add {w : sn_W} {a0 : Nat} {a1 : Nat} {S : sn_S} {mc : Nat} {ms : Nat} {Q : Int32 → sn_S → Prop} (h : wpJ2_add w a0 a1 S mc ms Q) : sn_Ct LoX w yJ2_add (ws_ yJ2_add cJ2_add 2 (some .boolean)) (rmJ2_add mc ms) [.ref a0, .ref a1] S (sn_qI Q) sn_noE := sn_Ct_of (XX_O w) (by decide) (Nat.le_of_ble_eq_true rfl) RJ2 rfl (fun C hO => wkJ2_add hO a0 a1 S mc ms Q h)
def rmX10_test (d : Nat) (mc ms : Nat) : Room := { frames := 8 * d + 104, cells := mc, slots := ms, locals := 800 * d + 9779 }
def okX10_test (w : sn_W) (d : Nat) (self : Nat → sn_S → Nat → Nat → sn_E → (Nat → sn_S → Prop) → Prop) : Prop := ∀ (a0 : Nat) (S : sn_S) (mc : Nat) (ms : Nat) (E : sn_E) (Q : Nat → sn_S → Prop), self a0 S mc ms E Q → sn_Ct LoX w yX10_test (ws_ yX10_test cX10_test 3 (some (.object "SnailPost$Test"))) (rmX10_test d mc ms) [.ref a0] S (sn_qA Q) E
theorem okX10_test.use {w : sn_W} {d : Nat} {self : Nat → sn_S → Nat → Nat → sn_E → (Nat → sn_S → Prop) → Prop} (hself : okX10_test w d self) {a0 : Nat} {S : sn_S} {mc : Nat} {ms : Nat} {E : sn_E} {Q : Nat → sn_S → Prop} (h : self a0 S mc ms E Q) : sn_Ct LoX w yX10_test (ws_ yX10_test cX10_test 3 (some (.object "SnailPost$Test"))) (rmX10_test d mc ms) [.ref a0] S (sn_qA Q) E := hself _ _ _ _ _ Q h
def rmX10_positive (d : Nat) (mc ms : Nat) : Room := { frames := 8 * d + 106, cells := mc, slots := ms, locals := 800 * d + 9979 }
/-- SnailPost$Reader.positive()LSnailPost$Test; -/
def wpX10_positive (w : sn_W) (self : Nat → sn_S → Nat → Nat → sn_E → (Nat → sn_S → Prop) → Prop) (a0 : Nat) (S : sn_S) (mc : Nat) (ms : Nat) (E : sn_E) (Q : Nat → sn_S → Prop) : Prop :=
  ((∃ fs, sn_oO S a0 10 fs) ∧ wpX10_is w a0 8 S (fun (r10 : Int32) => ((r10 = 0 → (∃ u11 u12 : Nat, u11 ≤ mc ∧ u12 ≤ ms ∧ ((∃ fs, sn_oO S a0 10 fs) ∧ wpX10_sum w 12 a0 S u11 u12 E (fun (a13 : Nat) (S14 : sn_S) => ((∃ fs, sn_oO S14 a0 10 fs) ∧ wpX10_is w a0 10 S14 (fun (r15 : Int32) => sn_jn (κ := Prop) ((sn_gK w S14 a0 10 0 11 ((sn_gI S14 a0 10 3 (fun x17 => (vp_in x17 400 ∧ sn_lt (UInt32.toInt32 (Int32.toUInt32 (S14.1 11 (x17).toNatClampNeg) % 65536)) (fun x18 => ((∃ fs, sn_oO S14 a0 10 fs) ∧ wpX10_next w a0 S14 (fun (S19 : sn_S) => (sn_nw S19 (mc - u11) (ms - u12) 3 (.inr (16, [.int 0, .null, .null])) (fun a20 S21 => (∃ u22 u23 : Nat, u22 ≤ ((mc - u11) - 1) ∧ u23 ≤ ((ms - u12) - 3) ∧ ((∃ fs, sn_oO S21 a0 10 fs) ∧ wpX10_sum w 12 a0 S21 u22 u23 E (fun (a24 : Nat) (S25 : sn_S) => wpX18_init w a20 x18 a13 a24 S25 (fun (S26 : sn_S) => Q a20 S26))))))))))))))) (fun (k16 : Prop) => ((¬ r15 = 0 → k16) ∧ (r15 = 0 → ((∃ fs, sn_oO S14 a0 10 fs) ∧ wpX10_is w a0 11 S14 (fun (r27 : Int32) => ((¬ r27 = 0 → k16) ∧ (r27 = 0 → ((∃ fs, sn_oO S14 a0 10 fs) ∧ wpX10_is w a0 12 S14 (fun (r28 : Int32) => ((¬ r28 = 0 → k16) ∧ (r28 = 0 → (sn_nw S14 (mc - u11) (ms - u12) 7 (.inr (11, [.null, .null, .null, .null, .null, .int 0, .int 0])) (fun a29 S30 => (sn_gI S30 a0 10 3 (fun x31 => wpX11_init w a29 x31 S30 (fun (S32 : sn_S) => ((∃ fs, sn_oO S32 a29 11 fs) ∧ E "SnailPost$Fault" a29 S32))))))))))))))))))))))) ∧ (¬ r10 = 0 → (∃ u33 u34 : Nat, u33 ≤ mc ∧ u34 ≤ ms ∧ ((∃ fs, sn_oO S a0 10 fs) ∧ wpX10_opens w a0 S u33 u34 E (fun (S35 : sn_S) => (∃ u36 u37 : Nat, u36 ≤ (mc - u33) ∧ u37 ≤ (ms - u34) ∧ ((∃ fs, sn_oO S35 a0 10 fs) ∧ self a0 S35 u36 u37 E (fun (a38 : Nat) (S39 : sn_S) => (∃ u40 u41 : Nat, u40 ≤ ((mc - u33) - u36) ∧ u41 ≤ ((ms - u34) - u37) ∧ ((∃ fs, sn_oO S39 a0 10 fs) ∧ wpX10_need w a0 9 S39 u40 u41 E (fun (S42 : sn_S) => (sn_gI S42 a0 10 6 (fun x43 => (sn_sV S42 a0 10 6 (.int (x43 - 1)) (fun S44 => Q a38 S44)))))))))))))))))
theorem wkX10_positive {w : sn_W} {C : sn_C} {d : Nat} {self : Nat → sn_S → Nat → Nat → sn_E → (Nat → sn_S → Prop) → Prop} (hself : okX10_test w d self) (hO : sn_Ok LoX w C RX10 cX10_positive 3 (some (.object "SnailPost$Test")) [] "positive") (a0 : Nat) (S : sn_S) (mc : Nat) (ms : Nat) (E : sn_E) (Q : Nat → sn_S → Prop) : wpX10_positive w self a0 S mc ms E Q → sn_G LoX w (rmX10_positive d mc ms) (sn_qA Q) E C mc ms 0 [(0, .ref a0)] [] S := by
  unfold wpX10_positive
  generalize hQq : (sn_qA Q) = Qq
  refine sn_aload_n hO 0 rfl dX10_positive_0 ?_
  refine sn_ldcS hO skX_8 dX10_positive_1 ?_
  refine sn_callV (P := (∃ fs, sn_oO S a0 10 fs) ∧ _) hO (c2 := mc) (s2 := ms) (rm := rmX10_is) [.ref (w.2.2.2.2.1 8)] cvX10_48 sn_RvP (fun h => ctX10_is (Nat.le_of_ble_eq_true rfl) h.2) ⟨by simp only [rmX10_is, rmX10_positive]; omega, by simp only [rmX10_is, rmX10_positive]; omega⟩ rfl rfl (Nat.le_of_ble_eq_true rfl) ⟨Nat.zero_le _, Nat.zero_le _, rfl, rfl⟩ dX10_positive_3 (sn_bIp (fun r10 => ?_)) sn_x0
  refine sn_if_eq hO 36 (by decide) dX10_positive_6 ?_ ?_
  · refine sn_aload_n hO 0 rfl dX10_positive_36 ?_
    refine sn_bud (fun u11 u12 hu11 hu12 => ?_)
    refine sn_callV (P := (∃ fs, sn_oO S a0 10 fs) ∧ _) hO (c2 := (mc - u11)) (s2 := (ms - u12)) (rm := (rmX10_sum 12 u11 u12)) [] cvX10_77 sn_RvP (fun h => ctX10_sum 12 h.2) ⟨by simp only [rmX10_positive, rmX10_sum]; omega, by simp only [rmX10_positive, rmX10_sum]; omega⟩ rfl rfl (Nat.le_of_ble_eq_true rfl) ⟨hu11, hu12, rfl, rfl⟩ dX10_positive_37 (sn_bA (fun a13 S14 => ?_)) (sn_xE hO)
    refine sn_astore_n hO (lv' := [(1, .ref a13), (0, .ref a0)]) (by decide) rfl dX10_positive_40 ?_
    refine sn_aload_n hO 1 rfl dX10_positive_41 ?_
    refine sn_ldcS hO skX_10 dX10_positive_42 ?_
    refine sn_callV (P := (∃ fs, sn_oO S14 a0 10 fs) ∧ _) hO (c2 := (mc - u11)) (s2 := (ms - u12)) (rm := rmX10_is) [.ref (w.2.2.2.2.1 10)] cvX10_48 sn_RvP (fun h => ctX10_is (Nat.le_of_ble_eq_true rfl) h.2) ⟨by simp only [rmX10_is, rmX10_positive]; omega, by simp only [rmX10_is, rmX10_positive]; omega⟩ rfl rfl (Nat.le_of_ble_eq_true rfl) ⟨Nat.zero_le _, Nat.zero_le _, rfl, rfl⟩ dX10_positive_44 (sn_bIp (fun r15 => ?_)) sn_x0
    refine sn_jn_walk (fun (k : Prop) => k → sn_G LoX w (rmX10_positive d mc ms) Qq E C (mc - u11) (ms - u12) 80 [(0, .ref a0), (1, .ref a13)] [] S14) ?_ ?_
    · refine sn_aload_n hO 0 rfl dX10_positive_80 ?_
      refine sn_ogetK hO fX10_20 dX10_positive_81 ?_
      refine sn_aload_n hO 0 rfl dX10_positive_84 ?_
      refine sn_ogetI hO fX10_31 dX10_positive_85 (fun x17 => ?_)
      refine sn_bald hO atX_11 rfl dX10_positive_88 ?_
      refine sn_i2c hO dX10_positive_89 ?_
      refine sn_nmI (fun x18 => ?_)
      refine sn_istore_n hO (lv' := [(2, .int x18), (0, .ref a0), (1, .ref a13)]) (by decide) rfl dX10_positive_90 ?_
      refine sn_aload_n hO 1 rfl dX10_positive_91 ?_
      refine sn_callV (P := (∃ fs, sn_oO S14 a0 10 fs) ∧ _) hO (c2 := (mc - u11)) (s2 := (ms - u12)) (rm := rmX10_next) [] cvX10_52 sn_RvP (fun h => ctX10_next h.2) ⟨by simp only [rmX10_next, rmX10_positive]; omega, by simp only [rmX10_next, rmX10_positive]; omega⟩ rfl rfl (Nat.le_of_ble_eq_true rfl) ⟨Nat.zero_le _, Nat.zero_le _, rfl, rfl⟩ dX10_positive_92 (sn_bV (fun S19 => ?_)) sn_x0
      refine sn_new (fs := [.int 0, .null, .null]) hO tyX18 in_X18 tyX18_ok q1025 q1026 q130 rfl nfX_16 dX10_positive_95 (fun a20 S21 => ?_)
      refine sn_dup hO rfl dX10_positive_98 ?_
      refine sn_iload_n hO 0 rfl dX10_positive_99 ?_
      refine sn_aload_n hO 2 rfl dX10_positive_100 ?_
      refine sn_aload_n hO 1 rfl dX10_positive_101 ?_
      refine sn_bud (fun u22 u23 hu22 hu23 => ?_)
      refine sn_callV (P := (∃ fs, sn_oO S21 a0 10 fs) ∧ _) hO (c2 := (((mc - u11) - 1) - u22)) (s2 := (((ms - u12) - 3) - u23)) (rm := (rmX10_sum 12 u22 u23)) [] cvX10_77 sn_RvP (fun h => ctX10_sum 12 h.2) ⟨by simp only [rmX10_positive, rmX10_sum]; omega, by simp only [rmX10_positive, rmX10_sum]; omega⟩ rfl rfl (Nat.le_of_ble_eq_true rfl) ⟨hu22, hu23, rfl, rfl⟩ dX10_positive_102 (sn_bA (fun a24 S25 => ?_)) (sn_xE hO)
      refine sn_callI (rY := none) hO (c2 := (((mc - u11) - 1) - u22)) (s2 := (((ms - u12) - 3) - u23)) (rm := rmX18_init) [.int x18, .ref a13, .ref a24] ciX10_148 (fun h => ctX18_init h) ⟨by simp only [rmX10_positive, rmX18_init]; omega, by simp only [rmX10_positive, rmX18_init]; omega⟩ rfl rfl (Nat.le_of_ble_eq_true rfl) ⟨Nat.zero_le _, Nat.zero_le _, rfl, rfl⟩ dX10_positive_105 (sn_bV (fun S26 => ?_)) sn_x0
      subst hQq
      exact sn_aret hO rfl (Or.inl ⟨_, rfl⟩) dX10_positive_108
    · intro k16 hk16
      refine sn_if_ne hO 80 (by decide) dX10_positive_47 ?_ ?_
      · refine sn_sub [1, 0] rfl ?_
        exact hk16
      · refine sn_aload_n hO 1 rfl dX10_positive_50 ?_
        refine sn_ldcS hO skX_11 dX10_positive_51 ?_
        refine sn_callV (P := (∃ fs, sn_oO S14 a0 10 fs) ∧ _) hO (c2 := (mc - u11)) (s2 := (ms - u12)) (rm := rmX10_is) [.ref (w.2.2.2.2.1 11)] cvX10_48 sn_RvP (fun h => ctX10_is (Nat.le_of_ble_eq_true rfl) h.2) ⟨by simp only [rmX10_is, rmX10_positive]; omega, by simp only [rmX10_is, rmX10_positive]; omega⟩ rfl rfl (Nat.le_of_ble_eq_true rfl) ⟨Nat.zero_le _, Nat.zero_le _, rfl, rfl⟩ dX10_positive_53 (sn_bIp (fun r27 => ?_)) sn_x0
        refine sn_if_ne hO 80 (by decide) dX10_positive_56 ?_ ?_
        · refine sn_sub [1, 0] rfl ?_
          exact hk16
        · refine sn_aload_n hO 1 rfl dX10_positive_59 ?_
          refine sn_ldcS hO skX_12 dX10_positive_60 ?_
          refine sn_callV (P := (∃ fs, sn_oO S14 a0 10 fs) ∧ _) hO (c2 := (mc - u11)) (s2 := (ms - u12)) (rm := rmX10_is) [.ref (w.2.2.2.2.1 12)] cvX10_48 sn_RvP (fun h => ctX10_is (Nat.le_of_ble_eq_true rfl) h.2) ⟨by simp only [rmX10_is, rmX10_positive]; omega, by simp only [rmX10_is, rmX10_positive]; omega⟩ rfl rfl (Nat.le_of_ble_eq_true rfl) ⟨Nat.zero_le _, Nat.zero_le _, rfl, rfl⟩ dX10_positive_62 (sn_bIp (fun r28 => ?_)) sn_x0
          refine sn_if_ne hO 80 (by decide) dX10_positive_65 ?_ ?_
          · refine sn_sub [1, 0] rfl ?_
            exact hk16
          · refine sn_new (fs := [.null, .null, .null, .null, .null, .int 0, .int 0]) hO tyX11 in_X11 tyX11_ok q873 q874 q123 rfl nfX_11 dX10_positive_68 (fun a29 S30 => ?_)
            refine sn_dup hO rfl dX10_positive_71 ?_
            refine sn_aload_n hO 1 rfl dX10_positive_72 ?_
            refine sn_ogetI hO fX10_31 dX10_positive_73 (fun x31 => ?_)
            refine sn_callI (rY := none) hO (c2 := ((mc - u11) - 1)) (s2 := ((ms - u12) - 7)) (rm := rmX11_init) [.int x31] ciX10_60 (fun h => ctX11_init h) ⟨by simp only [rmX10_positive, rmX11_init]; omega, by simp only [rmX10_positive, rmX11_init]; omega⟩ rfl rfl (Nat.le_of_ble_eq_true rfl) ⟨Nat.zero_le _, Nat.zero_le _, rfl, rfl⟩ dX10_positive_76 (sn_bV (fun S32 => ?_)) sn_x0
            exact sn_athrowA (ci := 11) hO rfl dX10_positive_79 (sn_xout hO)
  · refine sn_aload_n hO 0 rfl dX10_positive_9 ?_
    refine sn_bud (fun u33 u34 hu33 hu34 => ?_)
    refine sn_callV (P := (∃ fs, sn_oO S a0 10 fs) ∧ _) hO (c2 := (mc - u33)) (s2 := (ms - u34)) (rm := (rmX10_opens u33 u34)) [] cvX10_131 sn_RvP (fun h => ctX10_opens h.2) ⟨by simp only [rmX10_opens, rmX10_positive]; omega, by simp only [rmX10_opens, rmX10_positive]; omega⟩ rfl rfl (Nat.le_of_ble_eq_true rfl) ⟨hu33, hu34, rfl, rfl⟩ dX10_positive_10 (sn_bV (fun S35 => ?_)) (sn_xE hO)
    refine sn_aload_n hO 0 rfl dX10_positive_13 ?_
    refine sn_bud (fun u36 u37 hu36 hu37 => ?_)
    refine sn_callV (P := (∃ fs, sn_oO S35 a0 10 fs) ∧ _) hO (c2 := ((mc - u33) - u36)) (s2 := ((ms - u34) - u37)) (rm := (rmX10_test d u36 u37)) [] cvX10_86 sn_RvP (fun h => okX10_test.use hself h.2) ⟨by simp only [rmX10_positive, rmX10_test]; omega, by simp only [rmX10_positive, rmX10_test]; omega⟩ rfl rfl (Nat.le_of_ble_eq_true rfl) ⟨hu36, hu37, rfl, rfl⟩ dX10_positive_14 (sn_bA (fun a38 S39 => ?_)) (sn_xE hO)
    refine sn_astore_n hO (lv' := [(1, .ref a38), (0, .ref a0)]) (by decide) rfl dX10_positive_17 ?_
    refine sn_aload_n hO 1 rfl dX10_positive_18 ?_
    refine sn_ldcS hO skX_9 dX10_positive_19 ?_
    refine sn_bud (fun u40 u41 hu40 hu41 => ?_)
    refine sn_callV (P := (∃ fs, sn_oO S39 a0 10 fs) ∧ _) hO (c2 := (((mc - u33) - u36) - u40)) (s2 := (((ms - u34) - u37) - u41)) (rm := (rmX10_need u40 u41)) [.ref (w.2.2.2.2.1 9)] cvX10_136 sn_RvP (fun h => ctX10_need (Nat.le_of_ble_eq_true rfl) h.2) ⟨by simp only [rmX10_need, rmX10_positive]; omega, by simp only [rmX10_need, rmX10_positive]; omega⟩ rfl rfl (Nat.le_of_ble_eq_true rfl) ⟨hu40, hu41, rfl, rfl⟩ dX10_positive_21 (sn_bV (fun S42 => ?_)) (sn_xE hO)
    refine sn_aload_n hO 1 rfl dX10_positive_24 ?_
    refine sn_dup hO rfl dX10_positive_25 ?_
    refine sn_ogetI hO fX10_116 dX10_positive_26 (fun x43 => ?_)
    refine sn_iconst hO kc_1 dX10_positive_29 ?_
    refine sn_isub hO dX10_positive_30 ?_
    refine sn_oput hO fX10_116 rfl rfl dX10_positive_31 (fun S44 => ?_)
    refine sn_aload_n hO 0 rfl dX10_positive_34 ?_
    subst hQq
    exact sn_aret hO rfl (Or.inl ⟨_, rfl⟩) dX10_positive_35
theorem ctX10_positive {w : sn_W} {d : Nat} {self : Nat → sn_S → Nat → Nat → sn_E → (Nat → sn_S → Prop) → Prop} (hself : okX10_test w d self) {a0 : Nat} {S : sn_S} {mc : Nat} {ms : Nat} {E : sn_E} {Q : Nat → sn_S → Prop} (h : wpX10_positive w self a0 S mc ms E Q) : sn_Ct LoX w yX10_positive (ws_ yX10_positive cX10_positive 3 (some (.object "SnailPost$Test"))) (rmX10_positive d mc ms) [.ref a0] S (sn_qA Q) E := sn_Ct_of (XX_O w) (by decide) (Nat.le_of_ble_eq_true rfl) RX10 rfl (fun C hO => wkX10_positive hself hO a0 S mc ms E Q h)
def rmX10_plain (d : Nat) (mc ms : Nat) : Room := { frames := 8 * d + 108, cells := mc, slots := ms, locals := 800 * d + 10179 }
/-- SnailPost$Reader.plain()LSnailPost$Test; -/
def wpX10_plain (w : sn_W) (self : Nat → sn_S → Nat → Nat → sn_E → (Nat → sn_S → Prop) → Prop) (a0 : Nat) (S : sn_S) (mc : Nat) (ms : Nat) (E : sn_E) (Q : Nat → sn_S → Prop) : Prop :=
  sn_jn (fun (v10 : Int32) (m12 : Nat) (m13 : Nat) (S11 : sn_S) => (∃ u15 u16 : Nat, u15 ≤ m12 ∧ u16 ≤ m13 ∧ ((∃ fs, sn_oO S11 a0 10 fs) ∧ wpX10_positive w self a0 S11 u15 u16 E (fun (a17 : Nat) (S18 : sn_S) => ((v10 = 0 → Q a17 S18) ∧ (¬ v10 = 0 → (sn_nw S18 (m12 - u15) (m13 - u16) 1 (.inr (17, [.null])) (fun a19 S20 => wpX19_init w a19 a17 S20 (fun (S21 : sn_S) => Q a19 S21))))))))) (fun (k14 : Int32 → Nat → Nat → sn_S → Prop) => sn_lp4 (fun (rc26 : Int32 → Nat → Nat → sn_S → Prop) (i22 : Int32) (m24 : Nat) (m25 : Nat) (S23 : sn_S) => ((∃ fs, sn_oO S23 a0 10 fs) ∧ wpX10_takes w a0 7 S23 (fun (r27 : Int32) (S28 : sn_S) => ((r27 = 0 → k14 i22 m24 m25 S28) ∧ (¬ r27 = 0 → sn_jn (fun (v29 : Int32) => rc26 v29 m24 m25 S28) (fun (k30 : Int32 → Prop) => ((¬ i22 = 0 → k30 0) ∧ (i22 = 0 → k30 1)))))))) 0 mc ms S)
theorem wkX10_plain {w : sn_W} {C : sn_C} {d : Nat} {self : Nat → sn_S → Nat → Nat → sn_E → (Nat → sn_S → Prop) → Prop} (hself : okX10_test w d self) (hO : sn_Ok LoX w C RX10 cX10_plain 3 (some (.object "SnailPost$Test")) [] "plain") (a0 : Nat) (S : sn_S) (mc : Nat) (ms : Nat) (E : sn_E) (Q : Nat → sn_S → Prop) : wpX10_plain w self a0 S mc ms E Q → sn_G LoX w (rmX10_plain d mc ms) (sn_qA Q) E C mc ms 0 [(0, .ref a0)] [] S := by
  unfold wpX10_plain
  generalize hQq : (sn_qA Q) = Qq
  refine sn_iconst hO kc_0 dX10_plain_0 ?_
  refine sn_istore_n hO (lv' := [(1, .int 0), (0, .ref a0)]) (by decide) rfl dX10_plain_1 ?_
  refine sn_jn_walk (fun (k : Int32 → Nat → Nat → sn_S → Prop) => ∀ (v10 : Int32) (m12 : Nat) (m13 : Nat) (S11 : sn_S), k v10 m12 m13 S11 → sn_G LoX w (rmX10_plain d mc ms) Qq E C m12 m13 24 [(0, .ref a0), (1, .int v10)] [] S11) ?_ ?_
  · intro v10 m12 m13 S11
    refine sn_aload_n hO 0 rfl dX10_plain_24 ?_
    refine sn_bud (fun u15 u16 hu15 hu16 => ?_)
    refine sn_callV (P := (∃ fs, sn_oO S11 a0 10 fs) ∧ _) hO (c2 := (m12 - u15)) (s2 := (m13 - u16)) (rm := (rmX10_positive d u15 u16)) [] cvX10_121 sn_RvP (fun h => ctX10_positive hself h.2) ⟨by simp only [rmX10_plain, rmX10_positive]; omega, by simp only [rmX10_plain, rmX10_positive]; omega⟩ rfl rfl (Nat.le_of_ble_eq_true rfl) ⟨hu15, hu16, rfl, rfl⟩ dX10_plain_25 (sn_bA (fun a17 S18 => ?_)) (sn_xE hO)
    refine sn_astore_n hO (lv' := [(2, .ref a17), (0, .ref a0), (1, .int v10)]) (by decide) rfl dX10_plain_28 ?_
    refine sn_iload_n hO 2 rfl dX10_plain_29 ?_
    refine sn_if_eq hO 44 (by decide) dX10_plain_30 ?_ ?_
    · refine sn_aload_n hO 0 rfl dX10_plain_44 ?_
      subst hQq
      exact sn_aret hO rfl (Or.inl ⟨_, rfl⟩) dX10_plain_45
    · refine sn_new (fs := [.null]) hO tyX19 in_X19 tyX19_ok q1044 q1045 q131 rfl nfX_17 dX10_plain_33 (fun a19 S20 => ?_)
      refine sn_dup hO rfl dX10_plain_36 ?_
      refine sn_aload_n hO 0 rfl dX10_plain_37 ?_
      refine sn_callI (rY := none) hO (c2 := ((m12 - u15) - 1)) (s2 := ((m13 - u16) - 1)) (rm := rmX19_init) [.ref a17] ciX10_126 (fun h => ctX19_init h) ⟨by simp only [rmX10_plain, rmX19_init]; omega, by simp only [rmX10_plain, rmX19_init]; omega⟩ rfl rfl (Nat.le_of_ble_eq_true rfl) ⟨Nat.zero_le _, Nat.zero_le _, rfl, rfl⟩ dX10_plain_38 (sn_bV (fun S21 => ?_)) sn_x0
      refine sn_goto hO 45 (by decide) dX10_plain_41 ?_
      subst hQq
      exact sn_aret hO rfl (Or.inl ⟨_, rfl⟩) dX10_plain_45
  · intro k14 hk14
    refine sn_sub [1, 0] rfl ?_
    refine sn_lp4_walk (Gd := fun (i22 : Int32) (m24 : Nat) (m25 : Nat) (S23 : sn_S) => sn_G LoX w (rmX10_plain d mc ms) Qq E C m24 m25 2 [(0, .ref a0), (1, .int i22)] [] S23) ?_ _ _ _ _
    intro rc26 hrc26 i22 m24 m25 S23
    refine sn_aload_n hO 0 rfl dX10_plain_2 ?_
    refine sn_ldcS hO skX_7 dX10_plain_3 ?_
    refine sn_callV (P := (∃ fs, sn_oO S23 a0 10 fs) ∧ _) hO (c2 := m24) (s2 := m25) (rm := rmX10_takes) [.ref (w.2.2.2.2.1 7)] cvX10_55 sn_RvP (fun h => ctX10_takes (Nat.le_of_ble_eq_true rfl) h.2) ⟨by simp only [rmX10_plain, rmX10_takes]; omega, by simp only [rmX10_plain, rmX10_takes]; omega⟩ rfl rfl (Nat.le_of_ble_eq_true rfl) ⟨Nat.zero_le _, Nat.zero_le _, rfl, rfl⟩ dX10_plain_5 (sn_bI (fun r27 S28 => ?_)) sn_x0
    refine sn_if_eq hO 24 (by decide) dX10_plain_8 ?_ ?_
    · exact hk14 _ _ _ _
    · refine sn_iload_n hO 1 rfl dX10_plain_11 ?_
      refine sn_jn_walk (fun (k : Int32 → Prop) => ∀ (v29 : Int32), k v29 → sn_G LoX w (rmX10_plain d mc ms) Qq E C m24 m25 20 [(0, .ref a0)] [.int v29] S28) ?_ ?_
      · intro v29
        refine sn_istore_n hO (lv' := [(1, .int v29), (0, .ref a0)]) (by decide) rfl dX10_plain_20 ?_
        refine sn_goto hO 2 (by decide) dX10_plain_21 ?_
        refine sn_sub [1, 0] rfl ?_
        exact hrc26 _ _ _ _
      · intro k30 hk30
        refine sn_if_ne hO 19 (by decide) dX10_plain_12 ?_ ?_
        · refine sn_iconst hO kc_0 dX10_plain_19 ?_
          refine sn_sub [0] rfl ?_
          exact hk30 _
        · refine sn_iconst hO kc_1 dX10_plain_15 ?_
          refine sn_goto hO 20 (by decide) dX10_plain_16 ?_
          refine sn_sub [0] rfl ?_
          exact hk30 _
theorem ctX10_plain {w : sn_W} {d : Nat} {self : Nat → sn_S → Nat → Nat → sn_E → (Nat → sn_S → Prop) → Prop} (hself : okX10_test w d self) {a0 : Nat} {S : sn_S} {mc : Nat} {ms : Nat} {E : sn_E} {Q : Nat → sn_S → Prop} (h : wpX10_plain w self a0 S mc ms E Q) : sn_Ct LoX w yX10_plain (ws_ yX10_plain cX10_plain 3 (some (.object "SnailPost$Test"))) (rmX10_plain d mc ms) [.ref a0] S (sn_qA Q) E := sn_Ct_of (XX_O w) (by decide) (Nat.le_of_ble_eq_true rfl) RX10 rfl (fun C hO => wkX10_plain hself hO a0 S mc ms E Q h)
def rmX10_both (d : Nat) (mc ms : Nat) : Room := { frames := 8 * d + 110, cells := mc, slots := ms, locals := 800 * d + 10379 }
/-- SnailPost$Reader.both()LSnailPost$Test; -/
def wpX10_both (w : sn_W) (self : Nat → sn_S → Nat → Nat → sn_E → (Nat → sn_S → Prop) → Prop) (a0 : Nat) (S : sn_S) (mc : Nat) (ms : Nat) (E : sn_E) (Q : Nat → sn_S → Prop) : Prop :=
  (∃ u10 u11 : Nat, u10 ≤ mc ∧ u11 ≤ ms ∧ ((∃ fs, sn_oO S a0 10 fs) ∧ wpX10_plain w self a0 S u10 u11 E (fun (a12 : Nat) (S13 : sn_S) => ((∃ fs, sn_oO S13 a0 10 fs) ∧ wpX10_is w a0 6 S13 (fun (r14 : Int32) => ((¬ r14 = 0 → (sn_nw S13 (mc - u10) (ms - u11) 2 (.inr (18, [.int 0, .null])) (fun a15 S16 => (∃ u17 u18 : Nat, u17 ≤ ((mc - u10) - 1) ∧ u18 ≤ ((ms - u11) - 2) ∧ wpX20_init w a15 1 S16 u17 u18 (fun (S19 : sn_S) => (sn_gA S19 a15 18 1 (fun a20 => (∃ u21 u22 : Nat, u21 ≤ (((mc - u10) - 1) - u17) ∧ u22 ≤ (((ms - u11) - 2) - u18) ∧ ((∃ fs, sn_oO S19 a20 9 fs) ∧ wpJ2_add w a20 a12 S19 u21 u22 (fun (r23 : Int32) (S24 : sn_S) => sn_lp3 (fun (rc28 : Nat → Nat → sn_S → Prop) (m26 : Nat) (m27 : Nat) (S25 : sn_S) => ((∃ fs, sn_oO S25 a0 10 fs) ∧ wpX10_takes w a0 6 S25 (fun (r29 : Int32) (S30 : sn_S) => ((r29 = 0 → Q a15 S30) ∧ (¬ r29 = 0 → (sn_gA S30 a15 18 1 (fun a31 => (∃ u32 u33 : Nat, u32 ≤ m26 ∧ u33 ≤ m27 ∧ ((∃ fs, sn_oO S30 a0 10 fs) ∧ wpX10_plain w self a0 S30 u32 u33 E (fun (a34 : Nat) (S35 : sn_S) => (∃ u36 u37 : Nat, u36 ≤ (m26 - u32) ∧ u37 ≤ (m27 - u33) ∧ ((∃ fs, sn_oO S35 a31 9 fs) ∧ wpJ2_add w a31 a34 S35 u36 u37 (fun (r38 : Int32) (S39 : sn_S) => rc28 ((m26 - u32) - u36) ((m27 - u33) - u37) S39))))))))))))) ((((mc - u10) - 1) - u17) - u21) ((((ms - u11) - 2) - u18) - u22) S24)))))))))) ∧ (r14 = 0 → Q a12 S13)))))))
theorem wkX10_both {w : sn_W} {C : sn_C} {d : Nat} {self : Nat → sn_S → Nat → Nat → sn_E → (Nat → sn_S → Prop) → Prop} (hself : okX10_test w d self) (hO : sn_Ok LoX w C RX10 cX10_both 3 (some (.object "SnailPost$Test")) [] "both") (a0 : Nat) (S : sn_S) (mc : Nat) (ms : Nat) (E : sn_E) (Q : Nat → sn_S → Prop) : wpX10_both w self a0 S mc ms E Q → sn_G LoX w (rmX10_both d mc ms) (sn_qA Q) E C mc ms 0 [(0, .ref a0)] [] S := by
  unfold wpX10_both
  generalize hQq : (sn_qA Q) = Qq
  refine sn_aload_n hO 0 rfl dX10_both_0 ?_
  refine sn_bud (fun u10 u11 hu10 hu11 => ?_)
  refine sn_callV (P := (∃ fs, sn_oO S a0 10 fs) ∧ _) hO (c2 := (mc - u10)) (s2 := (ms - u11)) (rm := (rmX10_plain d u10 u11)) [] cvX10_111 sn_RvP (fun h => ctX10_plain hself h.2) ⟨by simp only [rmX10_both, rmX10_plain]; omega, by simp only [rmX10_both, rmX10_plain]; omega⟩ rfl rfl (Nat.le_of_ble_eq_true rfl) ⟨hu10, hu11, rfl, rfl⟩ dX10_both_1 (sn_bA (fun a12 S13 => ?_)) (sn_xE hO)
  refine sn_astore_n hO (lv' := [(1, .ref a12), (0, .ref a0)]) (by decide) rfl dX10_both_4 ?_
  refine sn_aload_n hO 1 rfl dX10_both_5 ?_
  refine sn_ldcS hO skX_6 dX10_both_6 ?_
  refine sn_callV (P := (∃ fs, sn_oO S13 a0 10 fs) ∧ _) hO (c2 := (mc - u10)) (s2 := (ms - u11)) (rm := rmX10_is) [.ref (w.2.2.2.2.1 6)] cvX10_48 sn_RvP (fun h => ctX10_is (Nat.le_of_ble_eq_true rfl) h.2) ⟨by simp only [rmX10_both, rmX10_is]; omega, by simp only [rmX10_both, rmX10_is]; omega⟩ rfl rfl (Nat.le_of_ble_eq_true rfl) ⟨Nat.zero_le _, Nat.zero_le _, rfl, rfl⟩ dX10_both_8 (sn_bIp (fun r14 => ?_)) sn_x0
  refine sn_if_ne hO 16 (by decide) dX10_both_11 ?_ ?_
  · refine sn_new (fs := [.int 0, .null]) hO tyX20 in_X20 tyX20_ok q1055 q1056 q132 rfl nfX_18 dX10_both_16 (fun a15 S16 => ?_)
    refine sn_dup hO rfl dX10_both_19 ?_
    refine sn_iconst hO kc_1 dX10_both_20 ?_
    refine sn_bud (fun u17 u18 hu17 hu18 => ?_)
    refine sn_callI (rY := none) hO (c2 := (((mc - u10) - 1) - u17)) (s2 := (((ms - u11) - 2) - u18)) (rm := (rmX20_init u17 u18)) [.int 1] ciX10_105 (fun h => ctX20_init h) ⟨by simp only [rmX10_both, rmX20_init]; omega, by simp only [rmX10_both, rmX20_init]; omega⟩ rfl rfl (Nat.le_of_ble_eq_true rfl) ⟨hu17, hu18, rfl, rfl⟩ dX10_both_21 (sn_bV (fun S19 => ?_)) sn_x0
    refine sn_astore_n hO (lv' := [(2, .ref a15), (1, .ref a12), (0, .ref a0)]) (by decide) rfl dX10_both_24 ?_
    refine sn_aload_n hO 0 rfl dX10_both_25 ?_
    refine sn_ogetAN hO fX10_108 dX10_both_26 (fun a20 => ?_)
    refine sn_aload_n hO 1 rfl dX10_both_29 ?_
    refine sn_bud (fun u21 u22 hu21 hu22 => ?_)
    refine sn_callV (P := (∃ fs, sn_oO S19 a20 9 fs) ∧ _) hO (c2 := ((((mc - u10) - 1) - u17) - u21)) (s2 := ((((ms - u11) - 2) - u18) - u22)) (rm := (rmJ2_add u21 u22)) [.ref a12] cvX10_94 sn_RvP (fun h => ctJ2_add h.2) ⟨by simp only [rmJ2_add, rmX10_both]; omega, by simp only [rmJ2_add, rmX10_both]; omega⟩ rfl rfl (Nat.le_of_ble_eq_true rfl) ⟨hu21, hu22, rfl, rfl⟩ dX10_both_30 (sn_bI (fun r23 S24 => ?_)) sn_x0
    refine sn_pop hO rfl dX10_both_33 ?_
    refine sn_sub [2, 0] rfl ?_
    refine sn_lp3_walk (Gd := fun (m26 : Nat) (m27 : Nat) (S25 : sn_S) => sn_G LoX w (rmX10_both d mc ms) Qq E C m26 m27 34 [(0, .ref a0), (2, .ref a15)] [] S25) ?_ _ _ _
    intro rc28 hrc28 m26 m27 S25
    refine sn_aload_n hO 0 rfl dX10_both_34 ?_
    refine sn_ldcS hO skX_6 dX10_both_35 ?_
    refine sn_callV (P := (∃ fs, sn_oO S25 a0 10 fs) ∧ _) hO (c2 := m26) (s2 := m27) (rm := rmX10_takes) [.ref (w.2.2.2.2.1 6)] cvX10_55 sn_RvP (fun h => ctX10_takes (Nat.le_of_ble_eq_true rfl) h.2) ⟨by simp only [rmX10_both, rmX10_takes]; omega, by simp only [rmX10_both, rmX10_takes]; omega⟩ rfl rfl (Nat.le_of_ble_eq_true rfl) ⟨Nat.zero_le _, Nat.zero_le _, rfl, rfl⟩ dX10_both_37 (sn_bI (fun r29 S30 => ?_)) sn_x0
    refine sn_if_eq hO 58 (by decide) dX10_both_40 ?_ ?_
    · refine sn_aload_n hO 1 rfl dX10_both_58 ?_
      subst hQq
      exact sn_aret hO rfl (Or.inl ⟨_, rfl⟩) dX10_both_59
    · refine sn_aload_n hO 1 rfl dX10_both_43 ?_
      refine sn_ogetAN hO fX10_108 dX10_both_44 (fun a31 => ?_)
      refine sn_aload_n hO 0 rfl dX10_both_47 ?_
      refine sn_bud (fun u32 u33 hu32 hu33 => ?_)
      refine sn_callV (P := (∃ fs, sn_oO S30 a0 10 fs) ∧ _) hO (c2 := (m26 - u32)) (s2 := (m27 - u33)) (rm := (rmX10_plain d u32 u33)) [] cvX10_111 sn_RvP (fun h => ctX10_plain hself h.2) ⟨by simp only [rmX10_both, rmX10_plain]; omega, by simp only [rmX10_both, rmX10_plain]; omega⟩ rfl rfl (Nat.le_of_ble_eq_true rfl) ⟨hu32, hu33, rfl, rfl⟩ dX10_both_48 (sn_bA (fun a34 S35 => ?_)) (sn_xE hO)
      refine sn_bud (fun u36 u37 hu36 hu37 => ?_)
      refine sn_callV (P := (∃ fs, sn_oO S35 a31 9 fs) ∧ _) hO (c2 := ((m26 - u32) - u36)) (s2 := ((m27 - u33) - u37)) (rm := (rmJ2_add u36 u37)) [.ref a34] cvX10_94 sn_RvP (fun h => ctJ2_add h.2) ⟨by simp only [rmJ2_add, rmX10_both]; omega, by simp only [rmJ2_add, rmX10_both]; omega⟩ rfl rfl (Nat.le_of_ble_eq_true rfl) ⟨hu36, hu37, rfl, rfl⟩ dX10_both_51 (sn_bI (fun r38 S39 => ?_)) sn_x0
      refine sn_pop hO rfl dX10_both_54 ?_
      refine sn_goto hO 34 (by decide) dX10_both_55 ?_
      exact hrc28 _ _ _
  · refine sn_aload_n hO 0 rfl dX10_both_14 ?_
    subst hQq
    exact sn_aret hO rfl (Or.inl ⟨_, rfl⟩) dX10_both_15
theorem ctX10_both {w : sn_W} {d : Nat} {self : Nat → sn_S → Nat → Nat → sn_E → (Nat → sn_S → Prop) → Prop} (hself : okX10_test w d self) {a0 : Nat} {S : sn_S} {mc : Nat} {ms : Nat} {E : sn_E} {Q : Nat → sn_S → Prop} (h : wpX10_both w self a0 S mc ms E Q) : sn_Ct LoX w yX10_both (ws_ yX10_both cX10_both 3 (some (.object "SnailPost$Test"))) (rmX10_both d mc ms) [.ref a0] S (sn_qA Q) E := sn_Ct_of (XX_O w) (by decide) (Nat.le_of_ble_eq_true rfl) RX10 rfl (fun C hO => wkX10_both hself hO a0 S mc ms E Q h)
/-- SnailPost$Reader.test()LSnailPost$Test; -/
def wpX10_testF (w : sn_W) (self : Nat → sn_S → Nat → Nat → sn_E → (Nat → sn_S → Prop) → Prop) (a0 : Nat) (S : sn_S) (mc : Nat) (ms : Nat) (E : sn_E) (Q : Nat → sn_S → Prop) : Prop :=
  (∃ u10 u11 : Nat, u10 ≤ mc ∧ u11 ≤ ms ∧ ((∃ fs, sn_oO S a0 10 fs) ∧ wpX10_both w self a0 S u10 u11 E (fun (a12 : Nat) (S13 : sn_S) => ((∃ fs, sn_oO S13 a0 10 fs) ∧ wpX10_is w a0 5 S13 (fun (r14 : Int32) => ((¬ r14 = 0 → (sn_nw S13 (mc - u10) (ms - u11) 2 (.inr (18, [.int 0, .null])) (fun a15 S16 => (∃ u17 u18 : Nat, u17 ≤ ((mc - u10) - 1) ∧ u18 ≤ ((ms - u11) - 2) ∧ wpX20_init w a15 0 S16 u17 u18 (fun (S19 : sn_S) => (sn_gA S19 a15 18 1 (fun a20 => (∃ u21 u22 : Nat, u21 ≤ (((mc - u10) - 1) - u17) ∧ u22 ≤ (((ms - u11) - 2) - u18) ∧ ((∃ fs, sn_oO S19 a20 9 fs) ∧ wpJ2_add w a20 a12 S19 u21 u22 (fun (r23 : Int32) (S24 : sn_S) => sn_lp3 (fun (rc28 : Nat → Nat → sn_S → Prop) (m26 : Nat) (m27 : Nat) (S25 : sn_S) => ((∃ fs, sn_oO S25 a0 10 fs) ∧ wpX10_takes w a0 5 S25 (fun (r29 : Int32) (S30 : sn_S) => ((r29 = 0 → Q a15 S30) ∧ (¬ r29 = 0 → (sn_gA S30 a15 18 1 (fun a31 => (∃ u32 u33 : Nat, u32 ≤ m26 ∧ u33 ≤ m27 ∧ ((∃ fs, sn_oO S30 a0 10 fs) ∧ wpX10_both w self a0 S30 u32 u33 E (fun (a34 : Nat) (S35 : sn_S) => (∃ u36 u37 : Nat, u36 ≤ (m26 - u32) ∧ u37 ≤ (m27 - u33) ∧ ((∃ fs, sn_oO S35 a31 9 fs) ∧ wpJ2_add w a31 a34 S35 u36 u37 (fun (r38 : Int32) (S39 : sn_S) => rc28 ((m26 - u32) - u36) ((m27 - u33) - u37) S39))))))))))))) ((((mc - u10) - 1) - u17) - u21) ((((ms - u11) - 2) - u18) - u22) S24)))))))))) ∧ (r14 = 0 → Q a12 S13)))))))
theorem wkX10_test {w : sn_W} {C : sn_C} {d : Nat} {self : Nat → sn_S → Nat → Nat → sn_E → (Nat → sn_S → Prop) → Prop} (hself : okX10_test w d self) (hO : sn_Ok LoX w C RX10 cX10_test 3 (some (.object "SnailPost$Test")) [] "test") (a0 : Nat) (S : sn_S) (mc : Nat) (ms : Nat) (E : sn_E) (Q : Nat → sn_S → Prop) : wpX10_testF w self a0 S mc ms E Q → sn_G LoX w (rmX10_test (d + 1) mc ms) (sn_qA Q) E C mc ms 0 [(0, .ref a0)] [] S := by
  unfold wpX10_testF
  generalize hQq : (sn_qA Q) = Qq
  refine sn_aload_n hO 0 rfl dX10_test_0 ?_
  refine sn_bud (fun u10 u11 hu10 hu11 => ?_)
  refine sn_callV (P := (∃ fs, sn_oO S a0 10 fs) ∧ _) hO (c2 := (mc - u10)) (s2 := (ms - u11)) (rm := (rmX10_both d u10 u11)) [] cvX10_98 sn_RvP (fun h => ctX10_both hself h.2) ⟨by simp only [rmX10_both, rmX10_test]; omega, by simp only [rmX10_both, rmX10_test]; omega⟩ rfl rfl (Nat.le_of_ble_eq_true rfl) ⟨hu10, hu11, rfl, rfl⟩ dX10_test_1 (sn_bA (fun a12 S13 => ?_)) (sn_xE hO)
  refine sn_astore_n hO (lv' := [(1, .ref a12), (0, .ref a0)]) (by decide) rfl dX10_test_4 ?_
  refine sn_aload_n hO 1 rfl dX10_test_5 ?_
  refine sn_ldcS hO skX_5 dX10_test_6 ?_
  refine sn_callV (P := (∃ fs, sn_oO S13 a0 10 fs) ∧ _) hO (c2 := (mc - u10)) (s2 := (ms - u11)) (rm := rmX10_is) [.ref (w.2.2.2.2.1 5)] cvX10_48 sn_RvP (fun h => ctX10_is (Nat.le_of_ble_eq_true rfl) h.2) ⟨by simp only [rmX10_is, rmX10_test]; omega, by simp only [rmX10_is, rmX10_test]; omega⟩ rfl rfl (Nat.le_of_ble_eq_true rfl) ⟨Nat.zero_le _, Nat.zero_le _, rfl, rfl⟩ dX10_test_8 (sn_bIp (fun r14 => ?_)) sn_x0
  refine sn_if_ne hO 16 (by decide) dX10_test_11 ?_ ?_
  · refine sn_new (fs := [.int 0, .null]) hO tyX20 in_X20 tyX20_ok q1055 q1056 q132 rfl nfX_18 dX10_test_16 (fun a15 S16 => ?_)
    refine sn_dup hO rfl dX10_test_19 ?_
    refine sn_iconst hO kc_0 dX10_test_20 ?_
    refine sn_bud (fun u17 u18 hu17 hu18 => ?_)
    refine sn_callI (rY := none) hO (c2 := (((mc - u10) - 1) - u17)) (s2 := (((ms - u11) - 2) - u18)) (rm := (rmX20_init u17 u18)) [.int 0] ciX10_105 (fun h => ctX20_init h) ⟨by simp only [rmX10_test, rmX20_init]; omega, by simp only [rmX10_test, rmX20_init]; omega⟩ rfl rfl (Nat.le_of_ble_eq_true rfl) ⟨hu17, hu18, rfl, rfl⟩ dX10_test_21 (sn_bV (fun S19 => ?_)) sn_x0
    refine sn_astore_n hO (lv' := [(2, .ref a15), (1, .ref a12), (0, .ref a0)]) (by decide) rfl dX10_test_24 ?_
    refine sn_aload_n hO 0 rfl dX10_test_25 ?_
    refine sn_ogetAN hO fX10_108 dX10_test_26 (fun a20 => ?_)
    refine sn_aload_n hO 1 rfl dX10_test_29 ?_
    refine sn_bud (fun u21 u22 hu21 hu22 => ?_)
    refine sn_callV (P := (∃ fs, sn_oO S19 a20 9 fs) ∧ _) hO (c2 := ((((mc - u10) - 1) - u17) - u21)) (s2 := ((((ms - u11) - 2) - u18) - u22)) (rm := (rmJ2_add u21 u22)) [.ref a12] cvX10_94 sn_RvP (fun h => ctJ2_add h.2) ⟨by simp only [rmJ2_add, rmX10_test]; omega, by simp only [rmJ2_add, rmX10_test]; omega⟩ rfl rfl (Nat.le_of_ble_eq_true rfl) ⟨hu21, hu22, rfl, rfl⟩ dX10_test_30 (sn_bI (fun r23 S24 => ?_)) sn_x0
    refine sn_pop hO rfl dX10_test_33 ?_
    refine sn_sub [2, 0] rfl ?_
    refine sn_lp3_walk (Gd := fun (m26 : Nat) (m27 : Nat) (S25 : sn_S) => sn_G LoX w (rmX10_test (d + 1) mc ms) Qq E C m26 m27 34 [(0, .ref a0), (2, .ref a15)] [] S25) ?_ _ _ _
    intro rc28 hrc28 m26 m27 S25
    refine sn_aload_n hO 0 rfl dX10_test_34 ?_
    refine sn_ldcS hO skX_5 dX10_test_35 ?_
    refine sn_callV (P := (∃ fs, sn_oO S25 a0 10 fs) ∧ _) hO (c2 := m26) (s2 := m27) (rm := rmX10_takes) [.ref (w.2.2.2.2.1 5)] cvX10_55 sn_RvP (fun h => ctX10_takes (Nat.le_of_ble_eq_true rfl) h.2) ⟨by simp only [rmX10_takes, rmX10_test]; omega, by simp only [rmX10_takes, rmX10_test]; omega⟩ rfl rfl (Nat.le_of_ble_eq_true rfl) ⟨Nat.zero_le _, Nat.zero_le _, rfl, rfl⟩ dX10_test_37 (sn_bI (fun r29 S30 => ?_)) sn_x0
    refine sn_if_eq hO 58 (by decide) dX10_test_40 ?_ ?_
    · refine sn_aload_n hO 1 rfl dX10_test_58 ?_
      subst hQq
      exact sn_aret hO rfl (Or.inl ⟨_, rfl⟩) dX10_test_59
    · refine sn_aload_n hO 1 rfl dX10_test_43 ?_
      refine sn_ogetAN hO fX10_108 dX10_test_44 (fun a31 => ?_)
      refine sn_aload_n hO 0 rfl dX10_test_47 ?_
      refine sn_bud (fun u32 u33 hu32 hu33 => ?_)
      refine sn_callV (P := (∃ fs, sn_oO S30 a0 10 fs) ∧ _) hO (c2 := (m26 - u32)) (s2 := (m27 - u33)) (rm := (rmX10_both d u32 u33)) [] cvX10_98 sn_RvP (fun h => ctX10_both hself h.2) ⟨by simp only [rmX10_both, rmX10_test]; omega, by simp only [rmX10_both, rmX10_test]; omega⟩ rfl rfl (Nat.le_of_ble_eq_true rfl) ⟨hu32, hu33, rfl, rfl⟩ dX10_test_48 (sn_bA (fun a34 S35 => ?_)) (sn_xE hO)
      refine sn_bud (fun u36 u37 hu36 hu37 => ?_)
      refine sn_callV (P := (∃ fs, sn_oO S35 a31 9 fs) ∧ _) hO (c2 := ((m26 - u32) - u36)) (s2 := ((m27 - u33) - u37)) (rm := (rmJ2_add u36 u37)) [.ref a34] cvX10_94 sn_RvP (fun h => ctJ2_add h.2) ⟨by simp only [rmJ2_add, rmX10_test]; omega, by simp only [rmJ2_add, rmX10_test]; omega⟩ rfl rfl (Nat.le_of_ble_eq_true rfl) ⟨hu36, hu37, rfl, rfl⟩ dX10_test_51 (sn_bI (fun r38 S39 => ?_)) sn_x0
      refine sn_pop hO rfl dX10_test_54 ?_
      refine sn_goto hO 34 (by decide) dX10_test_55 ?_
      exact hrc28 _ _ _
  · refine sn_aload_n hO 0 rfl dX10_test_14 ?_
    subst hQq
    exact sn_aret hO rfl (Or.inl ⟨_, rfl⟩) dX10_test_15
def wpX10_test (w : sn_W) : Nat → Nat → sn_S → Nat → Nat → sn_E → (Nat → sn_S → Prop) → Prop
  | 0 => fun _ _ _ _ _ _ => False
  | d + 1 => wpX10_testF w (wpX10_test w d)
theorem okX10_test_all {w : sn_W} : ∀ d : Nat, okX10_test w d (wpX10_test w d)
  | 0 => fun _ _ _ _ _ _ => fun h => h.elim
  | d + 1 => fun a0 S mc ms E Q h => sn_Ct_of (XX_O w) (by decide) (Nat.le_of_ble_eq_true rfl) RX10 rfl (fun C hO => wkX10_test (okX10_test_all d) hO a0 S mc ms E Q h)
theorem ctX10_test {w : sn_W} (d : Nat) {a0 : Nat} {S : sn_S} {mc : Nat} {ms : Nat} {E : sn_E} {Q : Nat → sn_S → Prop} (h : wpX10_test w d a0 S mc ms E Q) : sn_Ct LoX w yX10_test (ws_ yX10_test cX10_test 3 (some (.object "SnailPost$Test"))) (rmX10_test d mc ms) [.ref a0] S (sn_qA Q) E := okX10_test_all d _ _ _ _ _ Q h
def rmX10_clause (mc ms : Nat) : Room := { frames := 201, cells := mc, slots := ms, locals := 19401 }
/-- SnailPost$Reader.clause()V -/
def wpX10_clause (w : sn_W) (a0 : Nat) (S : sn_S) (mc : Nat) (ms : Nat) (E : sn_E) (Q : sn_S → Prop) : Prop :=
  ((∃ fs, sn_oO S a0 10 fs) ∧ wpX10_is w a0 1 S (fun (r10 : Int32) => sn_jn (fun (v11 : Int32) => (sn_gA S a0 10 2 (fun a13 => ((∃ fs, sn_oO S a13 9 fs) ∧ wpJ2_size w a13 S (fun (r14 : Int32) => sn_jn (κ := Prop) ((sn_nw S mc ms 7 (.inr (11, [.null, .null, .null, .null, .null, .int 0, .int 0])) (fun a16 S17 => (sn_gI S17 a0 10 3 (fun x18 => wpX11_init w a16 x18 S17 (fun (S19 : sn_S) => ((∃ fs, sn_oO S19 a16 11 fs) ∧ E "SnailPost$Fault" a16 S19))))))) (fun (k15 : Prop) => ((r14 = 12 → k15) ∧ (¬ r14 = 12 → ((¬ v11 = (-1) → ((∃ fs, sn_oO S a0 10 fs) ∧ wpX10_next w a0 S (fun (S20 : sn_S) => (sn_nw S20 mc ms 3 (.inr (12, [.int 0, .null, .null])) (fun a21 S22 => wpX12_init w a21 v11 S22 (fun (S23 : sn_S) => sn_jn (fun (m25 : Nat) (m26 : Nat) (S24 : sn_S) => ((∃ fs, sn_oO S24 a0 10 fs) ∧ wpX10_takes w a0 4 S24 (fun (r28 : Int32) (S29 : sn_S) => sn_jn (fun (m31 : Nat) (m32 : Nat) (S30 : sn_S) => (sn_gA S30 a0 10 2 (fun a34 => (∃ u35 u36 : Nat, u35 ≤ m31 ∧ u36 ≤ m32 ∧ ((∃ fs, sn_oO S30 a34 9 fs) ∧ wpJ2_add w a34 a21 S30 u35 u36 (fun (r37 : Int32) (S38 : sn_S) => Q S38)))))) (fun (k33 : Nat → Nat → sn_S → Prop) => ((r28 = 0 → k33 m25 m26 S29) ∧ (¬ r28 = 0 → (∃ u39 u40 : Nat, u39 ≤ m25 ∧ u40 ≤ m26 ∧ ((∃ fs, sn_oO S29 a0 10 fs) ∧ wpX10_test w 12 a0 S29 u39 u40 E (fun (a41 : Nat) (S42 : sn_S) => (sn_sV S42 a21 12 2 (.ref a41) (fun S43 => k33 (m25 - u39) (m26 - u40) S43))))))))))) (fun (k27 : Nat → Nat → sn_S → Prop) => ((v11 = 2 → k27 (mc - 1) (ms - 3) S23) ∧ (¬ v11 = 2 → (∃ u44 u45 : Nat, u44 ≤ (mc - 1) ∧ u45 ≤ (ms - 3) ∧ ((∃ fs, sn_oO S23 a0 10 fs) ∧ wpX10_sum w 12 a0 S23 u44 u45 E (fun (a46 : Nat) (S47 : sn_S) => (sn_sV S47 a21 12 1 (.ref a46) (fun S48 => k27 ((mc - 1) - u44) ((ms - 3) - u45) S48)))))))))))))) ∧ (v11 = (-1) → k15)))))))))) (fun (k12 : Int32 → Prop) => ((r10 = 0 → ((∃ fs, sn_oO S a0 10 fs) ∧ wpX10_is w a0 2 S (fun (r49 : Int32) => ((r49 = 0 → ((∃ fs, sn_oO S a0 10 fs) ∧ wpX10_is w a0 3 S (fun (r50 : Int32) => ((r50 = 0 → k12 (-1)) ∧ (¬ r50 = 0 → k12 2))))) ∧ (¬ r49 = 0 → k12 1))))) ∧ (¬ r10 = 0 → k12 0)))))
theorem wkX10_clause {w : sn_W} {C : sn_C} (hO : sn_Ok LoX w C RX10 cX10_clause 3 none [] "clause") (a0 : Nat) (S : sn_S) (mc : Nat) (ms : Nat) (E : sn_E) (Q : sn_S → Prop) : wpX10_clause w a0 S mc ms E Q → sn_G LoX w (rmX10_clause mc ms) (sn_qV Q) E C mc ms 0 [(0, .ref a0)] [] S := by
  unfold wpX10_clause
  generalize hQq : (sn_qV Q) = Qq
  refine sn_aload_n hO 0 rfl dX10_clause_0 ?_
  refine sn_ldcS hO skX_1 dX10_clause_1 ?_
  refine sn_callV (P := (∃ fs, sn_oO S a0 10 fs) ∧ _) hO (c2 := mc) (s2 := ms) (rm := rmX10_is) [.ref (w.2.2.2.2.1 1)] cvX10_48 sn_RvP (fun h => ctX10_is (Nat.le_of_ble_eq_true rfl) h.2) ⟨Nat.le_of_ble_eq_true rfl, Nat.le_of_ble_eq_true rfl⟩ rfl rfl (Nat.le_of_ble_eq_true rfl) ⟨Nat.zero_le _, Nat.zero_le _, rfl, rfl⟩ dX10_clause_3 (sn_bIp (fun r10 => ?_)) sn_x0
  refine sn_jn_walk (fun (k : Int32 → Prop) => ∀ (v11 : Int32), k v11 → sn_G LoX w (rmX10_clause mc ms) Qq E C mc ms 40 [(0, .ref a0)] [.int v11] S) ?_ ?_
  · intro v11
    refine sn_istore_n hO (lv' := [(1, .int v11), (0, .ref a0)]) (by decide) rfl dX10_clause_40 ?_
    refine sn_aload_n hO 1 rfl dX10_clause_41 ?_
    refine sn_ogetA hO fX10_14 dX10_clause_42 (fun a13 => ?_)
    refine sn_callV (P := (∃ fs, sn_oO S a13 9 fs) ∧ _) hO (c2 := mc) (s2 := ms) (rm := rmJ2_size) [] cvX10_72 sn_RvP (fun h => ctJ2_size h.2) ⟨Nat.le_of_ble_eq_true rfl, Nat.le_of_ble_eq_true rfl⟩ rfl rfl (Nat.le_of_ble_eq_true rfl) ⟨Nat.zero_le _, Nat.zero_le _, rfl, rfl⟩ dX10_clause_45 (sn_bIp (fun r14 => ?_)) sn_x0
    refine sn_bipush hO kb_12 dX10_clause_48 ?_
    refine sn_jn_walk (fun (k : Prop) => k → sn_G LoX w (rmX10_clause mc ms) Qq E C mc ms 58 [(0, .ref a0)] [] S) ?_ ?_
    · refine sn_new (fs := [.null, .null, .null, .null, .null, .int 0, .int 0]) hO tyX11 in_X11 tyX11_ok q873 q874 q123 rfl nfX_11 dX10_clause_58 (fun a16 S17 => ?_)
      refine sn_dup hO rfl dX10_clause_61 ?_
      refine sn_aload_n hO 0 rfl dX10_clause_62 ?_
      refine sn_ogetI hO fX10_31 dX10_clause_63 (fun x18 => ?_)
      refine sn_callI (rY := none) hO (c2 := (mc - 1)) (s2 := (ms - 7)) (rm := rmX11_init) [.int x18] ciX10_60 (fun h => ctX11_init h) ⟨Nat.le_of_ble_eq_true rfl, Nat.le_of_ble_eq_true rfl⟩ rfl rfl (Nat.le_of_ble_eq_true rfl) ⟨Nat.zero_le _, Nat.zero_le _, rfl, rfl⟩ dX10_clause_66 (sn_bV (fun S19 => ?_)) sn_x0
      exact sn_athrowA (ci := 11) hO rfl dX10_clause_69 (sn_xout hO)
    · intro k15 hk15
      refine sn_icmp_eq hO 58 (by decide) dX10_clause_50 ?_ ?_
      · refine sn_sub [1] rfl ?_
        exact hk15
      · refine sn_iload_n hO 0 rfl dX10_clause_53 ?_
        refine sn_iconst hO kc_m1 dX10_clause_54 ?_
        refine sn_icmp_ne hO 70 (by decide) dX10_clause_55 ?_ ?_
        · refine sn_aload_n hO 1 rfl dX10_clause_70 ?_
          refine sn_callV (P := (∃ fs, sn_oO S a0 10 fs) ∧ _) hO (c2 := mc) (s2 := ms) (rm := rmX10_next) [] cvX10_52 sn_RvP (fun h => ctX10_next h.2) ⟨Nat.le_of_ble_eq_true rfl, Nat.le_of_ble_eq_true rfl⟩ rfl rfl (Nat.le_of_ble_eq_true rfl) ⟨Nat.zero_le _, Nat.zero_le _, rfl, rfl⟩ dX10_clause_71 (sn_bV (fun S20 => ?_)) sn_x0
          refine sn_new (fs := [.int 0, .null, .null]) hO tyX12 in_X12 tyX12_ok q892 q893 q124 rfl nfX_12 dX10_clause_74 (fun a21 S22 => ?_)
          refine sn_dup hO rfl dX10_clause_77 ?_
          refine sn_iload_n hO 0 rfl dX10_clause_78 ?_
          refine sn_callI (rY := none) hO (c2 := (mc - 1)) (s2 := (ms - 3)) (rm := rmX12_init) [.int v11] ciX10_76 (fun h => ctX12_init h) ⟨Nat.le_of_ble_eq_true rfl, Nat.le_of_ble_eq_true rfl⟩ rfl rfl (Nat.le_of_ble_eq_true rfl) ⟨Nat.zero_le _, Nat.zero_le _, rfl, rfl⟩ dX10_clause_79 (sn_bV (fun S23 => ?_)) sn_x0
          refine sn_astore_n hO (lv' := [(2, .ref a21), (1, .int v11), (0, .ref a0)]) (by decide) rfl dX10_clause_82 ?_
          refine sn_iload_n hO 1 rfl dX10_clause_83 ?_
          refine sn_iconst hO kc_2 dX10_clause_84 ?_
          refine sn_jn_walk (fun (k : Nat → Nat → sn_S → Prop) => ∀ (m25 : Nat) (m26 : Nat) (S24 : sn_S), k m25 m26 S24 → sn_G LoX w (rmX10_clause mc ms) Qq E C m25 m26 96 [(0, .ref a0), (2, .ref a21)] [] S24) ?_ ?_
          · intro m25 m26 S24
            refine sn_aload_n hO 0 rfl dX10_clause_96 ?_
            refine sn_ldcS hO skX_4 dX10_clause_97 ?_
            refine sn_callV (P := (∃ fs, sn_oO S24 a0 10 fs) ∧ _) hO (c2 := m25) (s2 := m26) (rm := rmX10_takes) [.ref (w.2.2.2.2.1 4)] cvX10_55 sn_RvP (fun h => ctX10_takes (Nat.le_of_ble_eq_true rfl) h.2) ⟨Nat.le_of_ble_eq_true rfl, Nat.le_of_ble_eq_true rfl⟩ rfl rfl (Nat.le_of_ble_eq_true rfl) ⟨Nat.zero_le _, Nat.zero_le _, rfl, rfl⟩ dX10_clause_99 (sn_bI (fun r28 S29 => ?_)) sn_x0
            refine sn_jn_walk (fun (k : Nat → Nat → sn_S → Prop) => ∀ (m31 : Nat) (m32 : Nat) (S30 : sn_S), k m31 m32 S30 → sn_G LoX w (rmX10_clause mc ms) Qq E C m31 m32 113 [(0, .ref a0), (2, .ref a21)] [] S30) ?_ ?_
            · intro m31 m32 S30
              refine sn_aload_n hO 0 rfl dX10_clause_113 ?_
              refine sn_ogetA hO fX10_14 dX10_clause_114 (fun a34 => ?_)
              refine sn_aload_n hO 1 rfl dX10_clause_117 ?_
              refine sn_bud (fun u35 u36 hu35 hu36 => ?_)
              refine sn_callV (P := (∃ fs, sn_oO S30 a34 9 fs) ∧ _) hO (c2 := (m31 - u35)) (s2 := (m32 - u36)) (rm := (rmJ2_add u35 u36)) [.ref a21] cvX10_94 sn_RvP (fun h => ctJ2_add h.2) ⟨Nat.le_of_ble_eq_true rfl, Nat.le_of_ble_eq_true rfl⟩ rfl rfl (Nat.le_of_ble_eq_true rfl) ⟨hu35, hu36, rfl, rfl⟩ dX10_clause_118 (sn_bI (fun r37 S38 => ?_)) sn_x0
              refine sn_pop hO rfl dX10_clause_121 ?_
              subst hQq
              exact sn_vret hO rfl dX10_clause_122
            · intro k33 hk33
              refine sn_if_eq hO 113 (by decide) dX10_clause_102 ?_ ?_
              · exact hk33 _ _ _
              · refine sn_aload_n hO 1 rfl dX10_clause_105 ?_
                refine sn_aload_n hO 0 rfl dX10_clause_106 ?_
                refine sn_bud (fun u39 u40 hu39 hu40 => ?_)
                refine sn_callV (P := (∃ fs, sn_oO S29 a0 10 fs) ∧ _) hO (c2 := (m25 - u39)) (s2 := (m26 - u40)) (rm := (rmX10_test 12 u39 u40)) [] cvX10_86 sn_RvP (fun h => ctX10_test 12 h.2) ⟨Nat.le_of_ble_eq_true rfl, Nat.le_of_ble_eq_true rfl⟩ rfl rfl (Nat.le_of_ble_eq_true rfl) ⟨hu39, hu40, rfl, rfl⟩ dX10_clause_107 (sn_bA (fun a41 S42 => ?_)) (sn_xE hO)
                refine sn_oputN hO fX10_90 rfl rfl dX10_clause_110 (fun S43 => ?_)
                exact hk33 _ _ _
          · intro k27 hk27
            refine sn_icmp_eq hO 96 (by decide) dX10_clause_85 ?_ ?_
            · refine sn_sub [2, 0] rfl ?_
              exact hk27 _ _ _
            · refine sn_aload_n hO 0 rfl dX10_clause_88 ?_
              refine sn_aload_n hO 2 rfl dX10_clause_89 ?_
              refine sn_bud (fun u44 u45 hu44 hu45 => ?_)
              refine sn_callV (P := (∃ fs, sn_oO S23 a0 10 fs) ∧ _) hO (c2 := ((mc - 1) - u44)) (s2 := ((ms - 3) - u45)) (rm := (rmX10_sum 12 u44 u45)) [] cvX10_77 sn_RvP (fun h => ctX10_sum 12 h.2) ⟨Nat.le_of_ble_eq_true rfl, Nat.le_of_ble_eq_true rfl⟩ rfl rfl (Nat.le_of_ble_eq_true rfl) ⟨hu44, hu45, rfl, rfl⟩ dX10_clause_90 (sn_bA (fun a46 S47 => ?_)) (sn_xE hO)
              refine sn_oputN hO fX10_81 rfl rfl dX10_clause_93 (fun S48 => ?_)
              refine sn_sub [2, 0] rfl ?_
              exact hk27 _ _ _
        · refine sn_sub [1] rfl ?_
          exact hk15
  · intro k12 hk12
    refine sn_if_eq hO 13 (by decide) dX10_clause_6 ?_ ?_
    · refine sn_aload_n hO 0 rfl dX10_clause_13 ?_
      refine sn_ldcS hO skX_2 dX10_clause_14 ?_
      refine sn_callV (P := (∃ fs, sn_oO S a0 10 fs) ∧ _) hO (c2 := mc) (s2 := ms) (rm := rmX10_is) [.ref (w.2.2.2.2.1 2)] cvX10_48 sn_RvP (fun h => ctX10_is (Nat.le_of_ble_eq_true rfl) h.2) ⟨Nat.le_of_ble_eq_true rfl, Nat.le_of_ble_eq_true rfl⟩ rfl rfl (Nat.le_of_ble_eq_true rfl) ⟨Nat.zero_le _, Nat.zero_le _, rfl, rfl⟩ dX10_clause_16 (sn_bIp (fun r49 => ?_)) sn_x0
      refine sn_if_eq hO 26 (by decide) dX10_clause_19 ?_ ?_
      · refine sn_aload_n hO 0 rfl dX10_clause_26 ?_
        refine sn_ldcS hO skX_3 dX10_clause_27 ?_
        refine sn_callV (P := (∃ fs, sn_oO S a0 10 fs) ∧ _) hO (c2 := mc) (s2 := ms) (rm := rmX10_is) [.ref (w.2.2.2.2.1 3)] cvX10_48 sn_RvP (fun h => ctX10_is (Nat.le_of_ble_eq_true rfl) h.2) ⟨Nat.le_of_ble_eq_true rfl, Nat.le_of_ble_eq_true rfl⟩ rfl rfl (Nat.le_of_ble_eq_true rfl) ⟨Nat.zero_le _, Nat.zero_le _, rfl, rfl⟩ dX10_clause_29 (sn_bIp (fun r50 => ?_)) sn_x0
        refine sn_if_eq hO 39 (by decide) dX10_clause_32 ?_ ?_
        · refine sn_iconst hO kc_m1 dX10_clause_39 ?_
          exact hk12 _
        · refine sn_iconst hO kc_2 dX10_clause_35 ?_
          refine sn_goto hO 40 (by decide) dX10_clause_36 ?_
          exact hk12 _
      · refine sn_iconst hO kc_1 dX10_clause_22 ?_
        refine sn_goto hO 40 (by decide) dX10_clause_23 ?_
        exact hk12 _
    · refine sn_iconst hO kc_0 dX10_clause_9 ?_
      refine sn_goto hO 40 (by decide) dX10_clause_10 ?_
      exact hk12 _
theorem ctX10_clause {w : sn_W} {a0 : Nat} {S : sn_S} {mc : Nat} {ms : Nat} {E : sn_E} {Q : sn_S → Prop} (h : wpX10_clause w a0 S mc ms E Q) : sn_Ct LoX w yX10_clause (ws_ yX10_clause cX10_clause 3 none) (rmX10_clause mc ms) [.ref a0] S (sn_qV Q) E := sn_Ct_of (XX_O w) (by decide) (Nat.le_of_ble_eq_true rfl) RX10 rfl (fun C hO => wkX10_clause hO a0 S mc ms E Q h)
def rmX10_read (mc ms : Nat) : Room := { frames := 202, cells := mc, slots := ms, locals := 19423 }
/-- SnailPost$Reader.read()V -/
def wpX10_read (w : sn_W) (a0 : Nat) (S : sn_S) (mc : Nat) (ms : Nat) (E : sn_E) (Q : sn_S → Prop) : Prop :=
  ((∃ fs, sn_oO S a0 10 fs) ∧ wpX10_next w a0 S (fun (S10 : sn_S) => (∃ u11 u12 : Nat, u11 ≤ mc ∧ u12 ≤ ms ∧ ((∃ fs, sn_oO S10 a0 10 fs) ∧ wpX10_clause w a0 S10 u11 u12 E (fun (S13 : sn_S) => sn_jn (fun (m15 : Nat) (m16 : Nat) (S14 : sn_S) => (sn_gI S14 a0 10 3 (fun x18 => (sn_gI S14 a0 10 1 (fun x19 => ((x19 ≤ x18 → Q S14) ∧ (¬ x19 ≤ x18 → (sn_nw S14 m15 m16 7 (.inr (11, [.null, .null, .null, .null, .null, .int 0, .int 0])) (fun a20 S21 => (sn_gI S21 a0 10 3 (fun x22 => wpX11_init w a20 x22 S21 (fun (S23 : sn_S) => ((∃ fs, sn_oO S23 a20 11 fs) ∧ E "SnailPost$Fault" a20 S23))))))))))))) (fun (k17 : Nat → Nat → sn_S → Prop) => sn_lp3 (fun (rc27 : Nat → Nat → sn_S → Prop) (m25 : Nat) (m26 : Nat) (S24 : sn_S) => ((∃ fs, sn_oO S24 a0 10 fs) ∧ wpX10_takes w a0 0 S24 (fun (r28 : Int32) (S29 : sn_S) => ((r28 = 0 → k17 m25 m26 S29) ∧ (¬ r28 = 0 → (∃ u30 u31 : Nat, u30 ≤ m25 ∧ u31 ≤ m26 ∧ ((∃ fs, sn_oO S29 a0 10 fs) ∧ wpX10_clause w a0 S29 u30 u31 E (fun (S32 : sn_S) => rc27 (m25 - u30) (m26 - u31) S32)))))))) (mc - u11) (ms - u12) S13))))))
theorem wkX10_read {w : sn_W} {C : sn_C} (hO : sn_Ok LoX w C RX10 cX10_read 1 none [] "read") (a0 : Nat) (S : sn_S) (mc : Nat) (ms : Nat) (E : sn_E) (Q : sn_S → Prop) : wpX10_read w a0 S mc ms E Q → sn_G LoX w (rmX10_read mc ms) (sn_qV Q) E C mc ms 0 [(0, .ref a0)] [] S := by
  unfold wpX10_read
  generalize hQq : (sn_qV Q) = Qq
  refine sn_aload_n hO 0 rfl dX10_read_0 ?_
  refine sn_callV (P := (∃ fs, sn_oO S a0 10 fs) ∧ _) hO (c2 := mc) (s2 := ms) (rm := rmX10_next) [] cvX10_52 sn_RvP (fun h => ctX10_next h.2) ⟨Nat.le_of_ble_eq_true rfl, Nat.le_of_ble_eq_true rfl⟩ rfl rfl (Nat.le_of_ble_eq_true rfl) ⟨Nat.zero_le _, Nat.zero_le _, rfl, rfl⟩ dX10_read_1 (sn_bV (fun S10 => ?_)) sn_x0
  refine sn_aload_n hO 0 rfl dX10_read_4 ?_
  refine sn_bud (fun u11 u12 hu11 hu12 => ?_)
  refine sn_callV (P := (∃ fs, sn_oO S10 a0 10 fs) ∧ _) hO (c2 := (mc - u11)) (s2 := (ms - u12)) (rm := (rmX10_clause u11 u12)) [] cvX10_61 sn_RvP (fun h => ctX10_clause h.2) ⟨Nat.le_of_ble_eq_true rfl, Nat.le_of_ble_eq_true rfl⟩ rfl rfl (Nat.le_of_ble_eq_true rfl) ⟨hu11, hu12, rfl, rfl⟩ dX10_read_5 (sn_bV (fun S13 => ?_)) (sn_xE hO)
  refine sn_jn_walk (fun (k : Nat → Nat → sn_S → Prop) => ∀ (m15 : Nat) (m16 : Nat) (S14 : sn_S), k m15 m16 S14 → sn_G LoX w (rmX10_read mc ms) Qq E C m15 m16 24 [(0, .ref a0)] [] S14) ?_ ?_
  · intro m15 m16 S14
    refine sn_aload_n hO 0 rfl dX10_read_24 ?_
    refine sn_ogetI hO fX10_31 dX10_read_25 (fun x18 => ?_)
    refine sn_aload_n hO 0 rfl dX10_read_28 ?_
    refine sn_ogetI hO fX10_24 dX10_read_29 (fun x19 => ?_)
    refine sn_icmp_ge hO 47 (by decide) dX10_read_32 ?_ ?_
    · subst hQq
      exact sn_vret hO rfl dX10_read_47
    · refine sn_new (fs := [.null, .null, .null, .null, .null, .int 0, .int 0]) hO tyX11 in_X11 tyX11_ok q873 q874 q123 rfl nfX_11 dX10_read_35 (fun a20 S21 => ?_)
      refine sn_dup hO rfl dX10_read_38 ?_
      refine sn_aload_n hO 0 rfl dX10_read_39 ?_
      refine sn_ogetI hO fX10_31 dX10_read_40 (fun x22 => ?_)
      refine sn_callI (rY := none) hO (c2 := (m15 - 1)) (s2 := (m16 - 7)) (rm := rmX11_init) [.int x22] ciX10_60 (fun h => ctX11_init h) ⟨Nat.le_of_ble_eq_true rfl, Nat.le_of_ble_eq_true rfl⟩ rfl rfl (Nat.le_of_ble_eq_true rfl) ⟨Nat.zero_le _, Nat.zero_le _, rfl, rfl⟩ dX10_read_43 (sn_bV (fun S23 => ?_)) sn_x0
      exact sn_athrowA (ci := 11) hO rfl dX10_read_46 (sn_xout hO)
  · intro k17 hk17
    refine sn_lp3_walk (Gd := fun (m25 : Nat) (m26 : Nat) (S24 : sn_S) => sn_G LoX w (rmX10_read mc ms) Qq E C m25 m26 8 [(0, .ref a0)] [] S24) ?_ _ _ _
    intro rc27 hrc27 m25 m26 S24
    refine sn_aload_n hO 0 rfl dX10_read_8 ?_
    refine sn_ldcS hO skX_0 dX10_read_9 ?_
    refine sn_callV (P := (∃ fs, sn_oO S24 a0 10 fs) ∧ _) hO (c2 := m25) (s2 := m26) (rm := rmX10_takes) [.ref (w.2.2.2.2.1 0)] cvX10_55 sn_RvP (fun h => ctX10_takes (Nat.le_of_ble_eq_true rfl) h.2) ⟨Nat.le_of_ble_eq_true rfl, Nat.le_of_ble_eq_true rfl⟩ rfl rfl (Nat.le_of_ble_eq_true rfl) ⟨Nat.zero_le _, Nat.zero_le _, rfl, rfl⟩ dX10_read_11 (sn_bI (fun r28 S29 => ?_)) sn_x0
    refine sn_if_eq hO 24 (by decide) dX10_read_14 ?_ ?_
    · exact hk17 _ _ _
    · refine sn_aload_n hO 0 rfl dX10_read_17 ?_
      refine sn_bud (fun u30 u31 hu30 hu31 => ?_)
      refine sn_callV (P := (∃ fs, sn_oO S29 a0 10 fs) ∧ _) hO (c2 := (m25 - u30)) (s2 := (m26 - u31)) (rm := (rmX10_clause u30 u31)) [] cvX10_61 sn_RvP (fun h => ctX10_clause h.2) ⟨Nat.le_of_ble_eq_true rfl, Nat.le_of_ble_eq_true rfl⟩ rfl rfl (Nat.le_of_ble_eq_true rfl) ⟨hu30, hu31, rfl, rfl⟩ dX10_read_18 (sn_bV (fun S32 => ?_)) (sn_xE hO)
      refine sn_goto hO 8 (by decide) dX10_read_21 ?_
      exact hrc27 _ _ _
theorem ctX10_read {w : sn_W} {a0 : Nat} {S : sn_S} {mc : Nat} {ms : Nat} {E : sn_E} {Q : sn_S → Prop} (h : wpX10_read w a0 S mc ms E Q) : sn_Ct LoX w yX10_read (ws_ yX10_read cX10_read 1 none) (rmX10_read mc ms) [.ref a0] S (sn_qV Q) E := sn_Ct_of (XX_O w) (by decide) (Nat.le_of_ble_eq_true rfl) RX10 rfl (fun C hO => wkX10_read hO a0 S mc ms E Q h)
def rmX21_init : Room := { frames := 1, cells := 0, slots := 0, locals := 64 }
/-- SnailPost$Law.<init>(Ljava/util/ArrayList;)V -/
def wpX21_init (w : sn_W) (a0 : Nat) (a1 : Nat) (S : sn_S) (Q : sn_S → Prop) : Prop :=
  (sn_sV S a0 19 0 (.ref a1) (fun S10 => Q S10))
theorem wkX21_init {w : sn_W} {C : sn_C} (hO : sn_Ok LoX w C RX21 cX21_init 2 none [] "<init>") (a0 : Nat) (a1 : Nat) (S : sn_S) (Q : sn_S → Prop) : wpX21_init w a0 a1 S Q → sn_G LoX w rmX21_init (sn_qV Q) sn_noE C 0 0 0 [(0, .ref a0), (1, .ref a1)] [] S := by
  unfold wpX21_init
  generalize hQq : (sn_qV Q) = Qq
  refine sn_aload_n hO 0 rfl dX21_init_0 ?_
  refine sn_objInit hO q1090 q146 q147 ⟨Nat.le_of_ble_eq_true rfl, Nat.le_of_ble_eq_true rfl⟩ dX21_init_1 ?_
  refine sn_aload_n hO 0 rfl dX21_init_4 ?_
  refine sn_aload_n hO 1 rfl dX21_init_5 ?_
  refine sn_oputF hO fX21_9 (fun _ _ _ h => by cases h; rfl) rfl rfl dX21_init_6 (fun S10 => ?_)
  subst hQq
  exact sn_vret hO rfl dX21_init_9
theorem ctX21_init {w : sn_W} {a0 : Nat} {a1 : Nat} {S : sn_S} {Q : sn_S → Prop} (h : wpX21_init w a0 a1 S Q) : sn_Ct LoX w yX21_init (ws_ yX21_init cX21_init 2 none) rmX21_init [.ref a0, .ref a1] S (sn_qV Q) sn_noE := sn_Ct_of (XX_O w) (by decide) (Nat.le_of_ble_eq_true rfl) RX21 rfl (fun C hO => wkX21_init hO a0 a1 S Q h)
def rmX0_law (mc ms : Nat) : Room := { frames := 203, cells := mc, slots := ms, locals := 19443 }
/-- SnailPost.law()I -/
def wpX0_law (w : sn_W) (S : sn_S) (mc : Nat) (ms : Nat) (Q : Int32 → sn_S → Prop) : Prop :=
  sn_lt (S.1 0 5) (fun x10 => sn_lt (sn_pI S 0 5 0) (fun S11 => (sn_nn (S11.2.2.1 2 7) (fun a12 => ((∃ fs, sn_oO S11 a12 9 fs) ∧ wpJ2_size w a12 S11 (fun (r13 : Int32) => ((¬ r13 = 6 → (sn_nw S11 mc ms 7 (.inr (10, [.null, .int 0, .null, .int 0, .int 0, .int 0, .int 0])) (fun a14 S15 => (∃ u16 u17 : Nat, u16 ≤ (mc - 1) ∧ u17 ≤ (ms - 7) ∧ wpX10_init w a14 x10 S15 u16 u17 (fun (S18 : sn_S) => (∃ u19 u20 : Nat, u19 ≤ ((mc - 1) - u16) ∧ u20 ≤ ((ms - 7) - u17) ∧ ((∃ fs, sn_oO S18 a14 10 fs) ∧ wpX10_read w a14 S18 u19 u20 (fun cl a21 S22 => cl = "SnailPost$Fault" ∧ (sn_gI S22 a21 11 6 (fun x23 => sn_lt (sn_pI S22 0 6 x23) (fun S24 => wpX0_refuse w (-6) S24 (fun (r25 : Int32) (S26 : sn_S) => Q r25 S26))))) (fun (S27 : sn_S) => sn_lt (sn_pI S27 0 6 (-1)) (fun S28 => (sn_nn (S28.2.2.1 2 7) (fun a29 => (sn_nw S28 (((mc - 1) - u16) - u19) (((ms - 7) - u17) - u20) 1 (.inr (19, [.null])) (fun a30 S31 => (sn_gA S31 a14 10 2 (fun a32 => wpX21_init w a30 a32 S31 (fun (S33 : sn_S) => (∃ u34 u35 : Nat, u34 ≤ ((((mc - 1) - u16) - u19) - 1) ∧ u35 ≤ ((((ms - 7) - u17) - u20) - 1) ∧ ((∃ fs, sn_oO S33 a29 9 fs) ∧ wpJ2_add w a29 a30 S33 u34 u35 (fun (r36 : Int32) (S37 : sn_S) => (sn_nn (S37.2.2.1 2 7) (fun a38 => ((∃ fs, sn_oO S37 a38 9 fs) ∧ wpJ2_size w a38 S37 (fun (r39 : Int32) => wpX0_told w (r39 - 1) S37 (fun (r40 : Int32) (S41 : sn_S) => Q r40 S41)))))))))))))))))))))))) ∧ (r13 = 6 → wpX0_refuse w (-5) S11 (fun (r42 : Int32) (S43 : sn_S) => Q r42 S43)))))))))
theorem wkX0_law {w : sn_W} {C : sn_C} (hO : sn_Ok LoX w C RX0 cX0_law 4 (some .int) (tableOf [(45, 49, 52, 204)]) "law") (S : sn_S) (mc : Nat) (ms : Nat) (Q : Int32 → sn_S → Prop) : wpX0_law w S mc ms Q → sn_G LoX w (rmX0_law mc ms) (sn_qI Q) sn_noE C mc ms 0 [(0, .ref (w.2.2.1 0))] [] S := by
  unfold wpX0_law
  generalize hQq : (sn_qI Q) = Qq
  refine sn_aload_n hO 0 rfl dX0_law_0 ?_
  refine sn_getI hO fX0_176 atX_0 dX0_law_1 ?_
  refine sn_nmI (fun x10 => ?_)
  refine sn_istore_n hO (lv' := [(1, .int x10), (0, .ref (w.2.2.1 0))]) (by decide) rfl dX0_law_4 ?_
  refine sn_aload_n hO 1 rfl dX0_law_5 ?_
  refine sn_iconst hO kc_0 dX0_law_6 ?_
  refine sn_putI hO fX0_176 atX_0 rfl rfl dX0_law_7 ?_
  refine sn_nmS (fun S11 => ?_)
  refine sn_aload_n hO 1 rfl dX0_law_10 ?_
  refine sn_getF hO fX0_16 atX_0 dX0_law_11 ?_
  refine sn_getQN hO fX0_186 atX_2 dX0_law_14 ?_
  refine sn_deref (fun a12 => ?_)
  refine sn_callV (P := (∃ fs, sn_oO S11 a12 9 fs) ∧ _) hO (c2 := mc) (s2 := ms) (rm := rmJ2_size) [] cvX0_190 sn_RvP (fun h => ctJ2_size h.2) ⟨Nat.le_of_ble_eq_true rfl, Nat.le_of_ble_eq_true rfl⟩ rfl rfl (Nat.le_of_ble_eq_true rfl) ⟨Nat.zero_le _, Nat.zero_le _, rfl, rfl⟩ dX0_law_17 (sn_bIp (fun r13 => ?_)) sn_x0
  refine sn_bipush hO kb_6 dX0_law_20 ?_
  refine sn_icmp_ne hO 32 (by decide) dX0_law_22 ?_ ?_
  · refine sn_new (fs := [.null, .int 0, .null, .int 0, .int 0, .int 0, .int 0]) hO tyX10 in_X10 tyX10_ok q770 q771 q118 rfl nfX_10 dX0_law_32 (fun a14 S15 => ?_)
    refine sn_dup hO rfl dX0_law_35 ?_
    refine sn_aload_n hO 1 rfl dX0_law_36 ?_
    refine sn_getF hO fX0_24 atX_0 dX0_law_37 ?_
    refine sn_iload_n hO 0 rfl dX0_law_40 ?_
    refine sn_bud (fun u16 u17 hu16 hu17 => ?_)
    refine sn_callI (rY := none) hO (c2 := ((mc - 1) - u16)) (s2 := ((ms - 7) - u17)) (rm := (rmX10_init u16 u17)) [.ref (w.2.2.1 11), .int x10] ciX0_198 (fun h => ctX10_init h) ⟨Nat.le_of_ble_eq_true rfl, Nat.le_of_ble_eq_true rfl⟩ rfl rfl (Nat.le_of_ble_eq_true rfl) ⟨hu16, hu17, rfl, rfl⟩ dX0_law_41 (sn_bV (fun S18 => ?_)) sn_x0
    refine sn_astore_n hO (lv' := [(2, .ref a14), (1, .int x10), (0, .ref (w.2.2.1 0))]) (by decide) rfl dX0_law_44 ?_
    refine sn_aload_n hO 0 rfl dX0_law_45 ?_
    refine sn_bud (fun u19 u20 hu19 hu20 => ?_)
    refine sn_callV (P := (∃ fs, sn_oO S18 a14 10 fs) ∧ _) hO (c2 := (((mc - 1) - u16) - u19)) (s2 := (((ms - 7) - u17) - u20)) (rm := (rmX10_read u19 u20)) [] cvX0_201 sn_RvP (fun h => ctX10_read h.2) ⟨Nat.le_of_ble_eq_true rfl, Nat.le_of_ble_eq_true rfl⟩ rfl rfl (Nat.le_of_ble_eq_true rfl) ⟨hu19, hu20, rfl, rfl⟩ dX0_law_46 (sn_bV (fun S27 => ?_)) (sn_xh [] [] ⟨45, 49, 52, 204⟩ hO rfl (by decide) (by decide) (by decide) q765 nwc_7 (fun a21 S22 => ?_))
    · refine sn_goto hO 68 (by decide) dX0_law_49 ?_
      refine sn_aload_n hO 2 rfl dX0_law_68 ?_
      refine sn_iconst hO kc_m1 dX0_law_69 ?_
      refine sn_putI hO fX0_28 atX_0 rfl rfl dX0_law_70 ?_
      refine sn_nmS (fun S28 => ?_)
      refine sn_aload_n hO 2 rfl dX0_law_73 ?_
      refine sn_getF hO fX0_16 atX_0 dX0_law_74 ?_
      refine sn_getQN hO fX0_186 atX_2 dX0_law_77 ?_
      refine sn_deref (fun a29 => ?_)
      refine sn_new (fs := [.null]) hO tyX21 in_X21 tyX21_ok q1085 q1086 q137 rfl nfX_19 dX0_law_80 (fun a30 S31 => ?_)
      refine sn_dup hO rfl dX0_law_83 ?_
      refine sn_aload_n hO 0 rfl dX0_law_84 ?_
      refine sn_ogetAN hO fX0_211 dX0_law_85 (fun a32 => ?_)
      refine sn_callI (rY := none) hO (c2 := ((((mc - 1) - u16) - u19) - 1)) (s2 := ((((ms - 7) - u17) - u20) - 1)) (rm := rmX21_init) [.ref a32] ciX0_214 (fun h => ctX21_init h) ⟨Nat.le_of_ble_eq_true rfl, Nat.le_of_ble_eq_true rfl⟩ rfl rfl (Nat.le_of_ble_eq_true rfl) ⟨Nat.zero_le _, Nat.zero_le _, rfl, rfl⟩ dX0_law_88 (sn_bV (fun S33 => ?_)) sn_x0
      refine sn_bud (fun u34 u35 hu34 hu35 => ?_)
      refine sn_callV (P := (∃ fs, sn_oO S33 a29 9 fs) ∧ _) hO (c2 := (((((mc - 1) - u16) - u19) - 1) - u34)) (s2 := (((((ms - 7) - u17) - u20) - 1) - u35)) (rm := (rmJ2_add u34 u35)) [.ref a30] cvX0_217 sn_RvP (fun h => ctJ2_add h.2) ⟨Nat.le_of_ble_eq_true rfl, Nat.le_of_ble_eq_true rfl⟩ rfl rfl (Nat.le_of_ble_eq_true rfl) ⟨hu34, hu35, rfl, rfl⟩ dX0_law_91 (sn_bI (fun r36 S37 => ?_)) sn_x0
      refine sn_pop hO rfl dX0_law_94 ?_
      refine sn_aload_n hO 2 rfl dX0_law_95 ?_
      refine sn_aload_n hO 2 rfl dX0_law_96 ?_
      refine sn_getF hO fX0_16 atX_0 dX0_law_97 ?_
      refine sn_getQN hO fX0_186 atX_2 dX0_law_100 ?_
      refine sn_deref (fun a38 => ?_)
      refine sn_callV (P := (∃ fs, sn_oO S37 a38 9 fs) ∧ _) hO (c2 := (((((mc - 1) - u16) - u19) - 1) - u34)) (s2 := (((((ms - 7) - u17) - u20) - 1) - u35)) (rm := rmJ2_size) [] cvX0_190 sn_RvP (fun h => ctJ2_size h.2) ⟨Nat.le_of_ble_eq_true rfl, Nat.le_of_ble_eq_true rfl⟩ rfl rfl (Nat.le_of_ble_eq_true rfl) ⟨Nat.zero_le _, Nat.zero_le _, rfl, rfl⟩ dX0_law_103 (sn_bIp (fun r39 => ?_)) sn_x0
      refine sn_iconst hO kc_1 dX0_law_106 ?_
      refine sn_isub hO dX0_law_107 ?_
      refine sn_callV hO (c2 := (((((mc - 1) - u16) - u19) - 1) - u34)) (s2 := (((((ms - 7) - u17) - u20) - 1) - u35)) (rm := rmX0_told) [.int (r39 - 1)] cvX0_129 (fun _ => sn_Rv_K atX_0) (fun h => ctX0_told h) ⟨Nat.le_of_ble_eq_true rfl, Nat.le_of_ble_eq_true rfl⟩ rfl rfl (Nat.le_of_ble_eq_true rfl) ⟨Nat.zero_le _, Nat.zero_le _, rfl, rfl⟩ dX0_law_108 (sn_bI (fun r40 S41 => ?_)) sn_x0
      subst hQq
      exact sn_iret hO rfl dX0_law_111
    · refine sn_astore_n hO (lv' := [(3, .ref a21), (2, .ref a14), (1, .int x10), (0, .ref (w.2.2.1 0))]) (by decide) rfl dX0_law_52 ?_
      refine sn_aload_n hO 3 rfl dX0_law_53 ?_
      refine sn_aload_n hO 0 rfl dX0_law_54 ?_
      refine sn_ogetIN hO fX0_206 dX0_law_55 (fun x23 => ?_)
      refine sn_putI hO fX0_28 atX_0 rfl rfl dX0_law_58 ?_
      refine sn_nmS (fun S24 => ?_)
      refine sn_aload_n hO 3 rfl dX0_law_61 ?_
      refine sn_bipush hO kb_m6 dX0_law_62 ?_
      refine sn_callV hO (c2 := (((mc - 1) - u16) - u19)) (s2 := (((ms - 7) - u17) - u20)) (rm := rmX0_refuse) [.int (-6)] cvX0_122 (fun _ => sn_Rv_K atX_0) (fun h => ctX0_refuse h) ⟨Nat.le_of_ble_eq_true rfl, Nat.le_of_ble_eq_true rfl⟩ rfl rfl (Nat.le_of_ble_eq_true rfl) ⟨Nat.zero_le _, Nat.zero_le _, rfl, rfl⟩ dX0_law_64 (sn_bI (fun r25 S26 => ?_)) sn_x0
      subst hQq
      exact sn_iret hO rfl dX0_law_67
  · refine sn_aload_n hO 1 rfl dX0_law_25 ?_
    refine sn_bipush hO kb_m5 dX0_law_26 ?_
    refine sn_callV hO (c2 := mc) (s2 := ms) (rm := rmX0_refuse) [.int (-5)] cvX0_122 (fun _ => sn_Rv_K atX_0) (fun h => ctX0_refuse h) ⟨Nat.le_of_ble_eq_true rfl, Nat.le_of_ble_eq_true rfl⟩ rfl rfl (Nat.le_of_ble_eq_true rfl) ⟨Nat.zero_le _, Nat.zero_le _, rfl, rfl⟩ dX0_law_28 (sn_bI (fun r42 S43 => ?_)) sn_x0
    subst hQq
    exact sn_iret hO rfl dX0_law_31
theorem ctX0_law {w : sn_W} {S : sn_S} {mc : Nat} {ms : Nat} {Q : Int32 → sn_S → Prop} (h : wpX0_law w S mc ms Q) : sn_Ct LoX w yX0_law (wsW_ yX0_law cX0_law 4 (some .int) [(45, 49, 52, 204)]) (rmX0_law mc ms) [.ref (w.2.2.1 0)] S (sn_qI Q) sn_noE := sn_Ct_ofW (XX_O w) (by decide) (Nat.le_of_ble_eq_true rfl) RX0 rfl (fun C hO => wkX0_law hO S mc ms Q h)
def rmX0_fault : Room := { frames := 0, cells := 0, slots := 0, locals := 0 }
/-- SnailPost.fault()I -/
def wpX0_fault (w : sn_W) (S : sn_S) (Q : Int32 → Prop) : Prop :=
  Q (S.1 0 6)
theorem wkX0_fault {w : sn_W} {C : sn_C} (hO : sn_Ok LoX w C RX0 cX0_fault 1 (some .int) [] "fault") (S : sn_S) (Q : Int32 → Prop) : wpX0_fault w S Q → sn_G LoX w rmX0_fault (sn_qI (fun r S1 => S1 = S ∧ Q r)) sn_noE C 0 0 0 [(0, .ref (w.2.2.1 0))] [] S := by
  unfold wpX0_fault
  generalize hQq : (sn_qI (fun r S1 => S1 = S ∧ Q r)) = Qq
  refine sn_aload_n hO 0 rfl dX0_fault_0 ?_
  refine sn_getI hO fX0_28 atX_0 dX0_fault_1 ?_
  subst hQq
  exact fun h => sn_iret hO rfl dX0_fault_4 ⟨rfl, h⟩
theorem ctX0_fault {w : sn_W} {S : sn_S} {Q : Int32 → Prop} (h : wpX0_fault w S Q) : sn_Ct LoX w yX0_fault (ws_ yX0_fault cX0_fault 1 (some .int)) rmX0_fault [.ref (w.2.2.1 0)] S (sn_qI (fun r S1 => S1 = S ∧ Q r)) sn_noE := sn_Ct_of (XX_O w) (by decide) (Nat.le_of_ble_eq_true rfl) RX0 rfl (fun C hO => wkX0_fault hO S Q h)
def rmX0_force : Room := { frames := 2, cells := 0, slots := 0, locals := 42 }
/-- SnailPost.force(I)I -/
def wpX0_force (w : sn_W) (p1 : Int32) (S : sn_S) (Q : Int32 → sn_S → Prop) : Prop :=
  sn_jn (κ := Prop) (sn_lt (S.1 2 11) (fun x11 => sn_lt (sn_pI S 2 11 p1) (fun S12 => wpX0_told w x11 S12 (fun (r13 : Int32) (S14 : sn_S) => Q r13 S14)))) (fun (k10 : Prop) => ((p1 = (-1) → k10) ∧ (¬ p1 = (-1) → (sn_nn (S.2.2.1 2 7) (fun a15 => ((∃ fs, sn_oO S a15 9 fs) ∧ wpJ2_size w a15 S (fun (r16 : Int32) => wpX0_in w p1 0 (r16 - 1) (fun (r17 : Int32) => ((¬ r17 = 0 → k10) ∧ (r17 = 0 → wpX0_refuse w (-2) S (fun (r18 : Int32) (S19 : sn_S) => Q r18 S19)))))))))))
theorem wkX0_force {w : sn_W} {C : sn_C} (hO : sn_Ok LoX w C RX0 cX0_force 3 (some .int) [] "force") (p1 : Int32) (S : sn_S) (Q : Int32 → sn_S → Prop) : wpX0_force w p1 S Q → sn_G LoX w rmX0_force (sn_qI Q) sn_noE C 0 0 0 [(0, .ref (w.2.2.1 0)), (1, .int p1)] [] S := by
  unfold wpX0_force
  generalize hQq : (sn_qI Q) = Qq
  refine sn_iload_n hO 1 rfl dX0_force_0 ?_
  refine sn_iconst hO kc_m1 dX0_force_1 ?_
  refine sn_jn_walk (fun (k : Prop) => k → sn_G LoX w rmX0_force Qq sn_noE C 0 0 32 [(0, .ref (w.2.2.1 0)), (1, .int p1)] [] S) ?_ ?_
  · refine sn_aload_n hO 0 rfl dX0_force_32 ?_
    refine sn_getF hO fX0_16 atX_0 dX0_force_33 ?_
    refine sn_getIN hO fX0_221 atX_2 dX0_force_36 ?_
    refine sn_nmI (fun x11 => ?_)
    refine sn_istore_n hO (lv' := [(2, .int x11), (0, .ref (w.2.2.1 0)), (1, .int p1)]) (by decide) rfl dX0_force_39 ?_
    refine sn_aload_n hO 1 rfl dX0_force_40 ?_
    refine sn_getF hO fX0_16 atX_0 dX0_force_41 ?_
    refine sn_iload_n hO 2 rfl dX0_force_44 ?_
    refine sn_putIN hO fX0_221 atX_2 rfl rfl dX0_force_45 ?_
    refine sn_nmS (fun S12 => ?_)
    refine sn_aload_n hO 1 rfl dX0_force_48 ?_
    refine sn_iload_n hO 0 rfl dX0_force_49 ?_
    refine sn_callV hO (c2 := 0) (s2 := 0) (rm := rmX0_told) [.int x11] cvX0_129 (fun _ => sn_Rv_K atX_0) (fun h => ctX0_told h) ⟨Nat.le_of_ble_eq_true rfl, Nat.le_of_ble_eq_true rfl⟩ rfl rfl (Nat.le_of_ble_eq_true rfl) ⟨Nat.le_of_ble_eq_true rfl, Nat.le_of_ble_eq_true rfl, rfl, rfl⟩ dX0_force_50 (sn_bI (fun r13 S14 => ?_)) sn_x0
    subst hQq
    exact sn_iret hO rfl dX0_force_53
  · intro k10 hk10
    refine sn_icmp_eq hO 32 (by decide) dX0_force_2 ?_ ?_
    · exact hk10
    · refine sn_iload_n hO 1 rfl dX0_force_5 ?_
      refine sn_iconst hO kc_0 dX0_force_6 ?_
      refine sn_aload_n hO 0 rfl dX0_force_7 ?_
      refine sn_getF hO fX0_16 atX_0 dX0_force_8 ?_
      refine sn_getQN hO fX0_186 atX_2 dX0_force_11 ?_
      refine sn_deref (fun a15 => ?_)
      refine sn_callV (P := (∃ fs, sn_oO S a15 9 fs) ∧ _) hO (c2 := 0) (s2 := 0) (rm := rmJ2_size) [] cvX0_190 sn_RvP (fun h => ctJ2_size h.2) ⟨Nat.le_of_ble_eq_true rfl, Nat.le_of_ble_eq_true rfl⟩ rfl rfl (Nat.le_of_ble_eq_true rfl) ⟨Nat.le_of_ble_eq_true rfl, Nat.le_of_ble_eq_true rfl, rfl, rfl⟩ dX0_force_14 (sn_bIp (fun r16 => ?_)) sn_x0
      refine sn_iconst hO kc_1 dX0_force_17 ?_
      refine sn_isub hO dX0_force_18 ?_
      refine sn_callS hO (c2 := 0) (s2 := 0) (rm := rmX0_in) [.int p1, .int 0, .int (r16 - 1)] csX0_112 (fun h => ctX0_in h) ⟨Nat.le_of_ble_eq_true rfl, Nat.le_of_ble_eq_true rfl⟩ rfl rfl (Nat.le_of_ble_eq_true rfl) ⟨Nat.le_of_ble_eq_true rfl, Nat.le_of_ble_eq_true rfl, rfl, rfl⟩ dX0_force_19 (sn_bIp (fun r17 => ?_)) sn_x0
      refine sn_if_ne hO 32 (by decide) dX0_force_22 ?_ ?_
      · exact hk10
      · refine sn_aload_n hO 0 rfl dX0_force_25 ?_
        refine sn_bipush hO kb_m2 dX0_force_26 ?_
        refine sn_callV hO (c2 := 0) (s2 := 0) (rm := rmX0_refuse) [.int (-2)] cvX0_122 (fun _ => sn_Rv_K atX_0) (fun h => ctX0_refuse h) ⟨Nat.le_of_ble_eq_true rfl, Nat.le_of_ble_eq_true rfl⟩ rfl rfl (Nat.le_of_ble_eq_true rfl) ⟨Nat.le_of_ble_eq_true rfl, Nat.le_of_ble_eq_true rfl, rfl, rfl⟩ dX0_force_28 (sn_bI (fun r18 S19 => ?_)) sn_x0
        subst hQq
        exact sn_iret hO rfl dX0_force_31
theorem ctX0_force {w : sn_W} {p1 : Int32} {S : sn_S} {Q : Int32 → sn_S → Prop} (h : wpX0_force w p1 S Q) : sn_Ct LoX w yX0_force (ws_ yX0_force cX0_force 3 (some .int)) rmX0_force [.ref (w.2.2.1 0), .int p1] S (sn_qI Q) sn_noE := sn_Ct_of (XX_O w) (by decide) (Nat.le_of_ble_eq_true rfl) RX0 rfl (fun C hO => wkX0_force hO p1 S Q h)
def rmX4_begins : Room := { frames := 1, cells := 0, slots := 0, locals := 22 }
/-- SnailPost$Walk.begins()V -/
def wpX4_begins (w : sn_W) (kw : Nat) (S : sn_S) (Q : sn_S → Prop) : Prop :=
  sn_jn (fun (S10 : sn_S) => sn_lt (sn_pI S10 kw 4 0) (fun S12 => sn_lp2 (fun (rc15 : Int32 → sn_S → Prop) (i13 : Int32) (S14 : sn_S) => (((S14.1 2 8) ≤ i13 → Q S14) ∧ (¬ (S14.1 2 8) ≤ i13 → wpX0_of0 w i13 0 S14 (fun (r16 : Int32) => (vp_in i13 6 ∧ sn_lt (sn_pI S14 (kw + 1) (i13).toNatClampNeg r16) (fun S17 => (vp_in i13 6 ∧ wpX0_of0 w i13 1 S17 (fun (r18 : Int32) => sn_jn (fun (v19 : Int32) => (vp_in i13 6 ∧ sn_lt (sn_pI S17 (kw + 2) (i13).toNatClampNeg v19) (fun S21 => (vp_in i13 6 ∧ sn_lt (sn_pI S21 (kw + 3) (i13).toNatClampNeg 0) (fun S22 => (vp_in i13 6 ∧ (vp_in (S22.1 (kw + 1) (i13).toNatClampNeg) 96 ∧ (vp_in (S22.1 (kw + 1) (i13).toNatClampNeg) 96 ∧ sn_lt (sn_pI S22 (kw + 4) ((S22.1 (kw + 1) (i13).toNatClampNeg)).toNatClampNeg ((S22.1 (kw + 4) ((S22.1 (kw + 1) (i13).toNatClampNeg)).toNatClampNeg) ||| (1 <<< (i13 &&& 31)))) (fun S23 => rc15 (i13 + 1) S23))))))))) (fun (k20 : Int32 → Prop) => ((¬ (S17.1 (kw + 1) (i13).toNatClampNeg) = r18 → k20 (-1)) ∧ ((S17.1 (kw + 1) (i13).toNatClampNeg) = r18 → k20 0))))))))))) 0 S12)) (fun (k11 : sn_S → Prop) => sn_lp2 (fun (rc26 : Int32 → sn_S → Prop) (i24 : Int32) (S25 : sn_S) => ((96 ≤ i24 → k11 S25) ∧ (¬ 96 ≤ i24 → (vp_in i24 96 ∧ sn_lt (sn_pI S25 (kw + 4) (i24).toNatClampNeg 0) (fun S27 => rc26 (i24 + 1) S27))))) 0 S)
theorem wkX4_begins {w : sn_W} {C : sn_C} (hO : sn_Ok LoX w C RX4 cX4_begins 2 none [] "begins") (kw : Nat) (S : sn_S) (hkw : isW kw = true) (Q : sn_S → Prop) : wpX4_begins w kw S Q → sn_G LoX w rmX4_begins (sn_qV Q) sn_noE C 0 0 0 [(0, .ref (w.2.2.1 kw))] [] S := by
  unfold wpX4_begins
  generalize hQq : (sn_qV Q) = Qq
  refine sn_iconst hO kc_0 dX4_begins_0 ?_
  refine sn_istore_n hO (lv' := [(1, .int 0), (0, .ref (w.2.2.1 kw))]) (by decide) rfl dX4_begins_1 ?_
  refine sn_jn_walk (fun (k : sn_S → Prop) => ∀ (S10 : sn_S), k S10 → sn_G LoX w rmX4_begins Qq sn_noE C 0 0 21 [(0, .ref (w.2.2.1 kw))] [] S10) ?_ ?_
  · intro S10
    refine sn_aload_n hO 0 rfl dX4_begins_21 ?_
    refine sn_iconst hO kc_0 dX4_begins_22 ?_
    refine sn_putI hO (fX4_28 kw) (atW0 (k := kw) hkw) rfl rfl dX4_begins_23 ?_
    refine sn_nmS (fun S12 => ?_)
    refine sn_iconst hO kc_0 dX4_begins_26 ?_
    refine sn_istore_n hO (lv' := [(1, .int 0), (0, .ref (w.2.2.1 kw))]) (by decide) rfl dX4_begins_27 ?_
    refine sn_sub [1, 0] rfl ?_
    refine sn_lp2_walk (Gd := fun (i13 : Int32) (S14 : sn_S) => sn_G LoX w rmX4_begins Qq sn_noE C 0 0 28 [(0, .ref (w.2.2.1 kw)), (1, .int i13)] [] S14) ?_ _ _
    intro rc15 hrc15 i13 S14
    refine sn_iload_n hO 1 rfl dX4_begins_28 ?_
    refine sn_aload_n hO 0 rfl dX4_begins_29 ?_
    refine sn_getF hO (fX4_3 kw) (atW0 (k := kw) hkw) dX4_begins_30 ?_
    refine sn_getFN hO fX4_32 atX_0 dX4_begins_33 ?_
    refine sn_getIN hO fX4_36 atX_2 dX4_begins_36 ?_
    refine sn_icmp_ge hO 116 (by decide) dX4_begins_39 ?_ ?_
    · subst hQq
      exact sn_vret hO rfl dX4_begins_116
    · refine sn_aload_n hO 0 rfl dX4_begins_42 ?_
      refine sn_getF hO (fX4_15 kw) (atW0 (k := kw) hkw) dX4_begins_43 ?_
      refine sn_iload_n hO 1 rfl dX4_begins_46 ?_
      refine sn_aload_n hO 0 rfl dX4_begins_47 ?_
      refine sn_getF hO (fX4_3 kw) (atW0 (k := kw) hkw) dX4_begins_48 ?_
      refine sn_iload_n hO 1 rfl dX4_begins_51 ?_
      refine sn_iconst hO kc_0 dX4_begins_52 ?_
      refine sn_callVN hO (c2 := 0) (s2 := 0) (rm := rmX0_of0) [.int i13, .int 0] cvX4_41 (fun _ => sn_Rv_K atX_0) (fun h => ctX0_of0 h) ⟨Nat.le_of_ble_eq_true rfl, Nat.le_of_ble_eq_true rfl⟩ rfl rfl (Nat.le_of_ble_eq_true rfl) ⟨Nat.le_of_ble_eq_true rfl, Nat.le_of_ble_eq_true rfl, rfl, rfl⟩ dX4_begins_53 (sn_bIp (fun r16 => ?_)) sn_x0
      refine sn_iast hO (atW1 (k := kw) hkw) rfl dX4_begins_56 ?_
      refine sn_nmS (fun S17 => ?_)
      refine sn_aload_n hO 0 rfl dX4_begins_57 ?_
      refine sn_getF hO (fX4_19 kw) (atW0 (k := kw) hkw) dX4_begins_58 ?_
      refine sn_iload_n hO 1 rfl dX4_begins_61 ?_
      refine sn_aload_n hO 0 rfl dX4_begins_62 ?_
      refine sn_getF hO (fX4_15 kw) (atW0 (k := kw) hkw) dX4_begins_63 ?_
      refine sn_iload_n hO 1 rfl dX4_begins_66 ?_
      refine sn_iald hO (atW1 (k := kw) hkw) rfl dX4_begins_67 ?_
      refine sn_aload_n hO 0 rfl dX4_begins_68 ?_
      refine sn_getF hO (fX4_3 kw) (atW0 (k := kw) hkw) dX4_begins_69 ?_
      refine sn_iload_n hO 1 rfl dX4_begins_72 ?_
      refine sn_iconst hO kc_1 dX4_begins_73 ?_
      refine sn_callVN hO (c2 := 0) (s2 := 0) (rm := rmX0_of0) [.int i13, .int 1] cvX4_41 (fun _ => sn_Rv_K atX_0) (fun h => ctX0_of0 h) ⟨Nat.le_of_ble_eq_true rfl, Nat.le_of_ble_eq_true rfl⟩ rfl rfl (Nat.le_of_ble_eq_true rfl) ⟨Nat.le_of_ble_eq_true rfl, Nat.le_of_ble_eq_true rfl, rfl, rfl⟩ dX4_begins_74 (sn_bIp (fun r18 => ?_)) sn_x0
      refine sn_jn_walk (fun (k : Int32 → Prop) => ∀ (v19 : Int32), k v19 → sn_G LoX w rmX4_begins Qq sn_noE C 0 0 85 [(0, .ref (w.2.2.1 kw)), (1, .int i13)] [.int v19, .int i13, .ref (w.2.2.1 (kw + 2))] S17) ?_ ?_
      · intro v19
        refine sn_iast hO (atW2 (k := kw) hkw) rfl dX4_begins_85 ?_
        refine sn_nmS (fun S21 => ?_)
        refine sn_aload_n hO 0 rfl dX4_begins_86 ?_
        refine sn_getF hO (fX4_22 kw) (atW0 (k := kw) hkw) dX4_begins_87 ?_
        refine sn_iload_n hO 1 rfl dX4_begins_90 ?_
        refine sn_iconst hO kc_0 dX4_begins_91 ?_
        refine sn_iast hO (atW3 (k := kw) hkw) rfl dX4_begins_92 ?_
        refine sn_nmS (fun S22 => ?_)
        refine sn_aload_n hO 0 rfl dX4_begins_93 ?_
        refine sn_getF hO (fX4_25 kw) (atW0 (k := kw) hkw) dX4_begins_94 ?_
        refine sn_aload_n hO 0 rfl dX4_begins_97 ?_
        refine sn_getF hO (fX4_15 kw) (atW0 (k := kw) hkw) dX4_begins_98 ?_
        refine sn_iload_n hO 1 rfl dX4_begins_101 ?_
        refine sn_iald hO (atW1 (k := kw) hkw) rfl dX4_begins_102 ?_
        refine sn_dup2 hO rfl rfl dX4_begins_103 ?_
        refine sn_iald hO (atW4 (k := kw) hkw) rfl dX4_begins_104 ?_
        refine sn_iconst hO kc_1 dX4_begins_105 ?_
        refine sn_iload_n hO 1 rfl dX4_begins_106 ?_
        refine sn_ishl hO dX4_begins_107 ?_
        refine sn_ior hO dX4_begins_108 ?_
        refine sn_iast hO (atW4 (k := kw) hkw) rfl dX4_begins_109 ?_
        refine sn_nmS (fun S23 => ?_)
        refine sn_iinc hO (lv' := [(1, .int (i13 + 1)), (0, .ref (w.2.2.1 kw))]) 1 rfl ki_1 (by decide) rfl dX4_begins_110 ?_
        refine sn_goto hO 28 (by decide) dX4_begins_113 ?_
        refine sn_sub [1, 0] rfl ?_
        exact hrc15 _ _
      · intro k20 hk20
        refine sn_icmp_ne hO 84 (by decide) dX4_begins_77 ?_ ?_
        · refine sn_iconst hO kc_m1 dX4_begins_84 ?_
          exact hk20 _
        · refine sn_iconst hO kc_0 dX4_begins_80 ?_
          refine sn_goto hO 85 (by decide) dX4_begins_81 ?_
          exact hk20 _
  · intro k11 hk11
    refine sn_sub [1, 0] rfl ?_
    refine sn_lp2_walk (Gd := fun (i24 : Int32) (S25 : sn_S) => sn_G LoX w rmX4_begins Qq sn_noE C 0 0 2 [(0, .ref (w.2.2.1 kw)), (1, .int i24)] [] S25) ?_ _ _
    intro rc26 hrc26 i24 S25
    refine sn_iload_n hO 1 rfl dX4_begins_2 ?_
    refine sn_bipush hO kb_96 dX4_begins_3 ?_
    refine sn_icmp_ge hO 21 (by decide) dX4_begins_5 ?_ ?_
    · refine sn_sub [0] rfl ?_
      exact hk11 _
    · refine sn_aload_n hO 0 rfl dX4_begins_8 ?_
      refine sn_getF hO (fX4_25 kw) (atW0 (k := kw) hkw) dX4_begins_9 ?_
      refine sn_iload_n hO 1 rfl dX4_begins_12 ?_
      refine sn_iconst hO kc_0 dX4_begins_13 ?_
      refine sn_iast hO (atW4 (k := kw) hkw) rfl dX4_begins_14 ?_
      refine sn_nmS (fun S27 => ?_)
      refine sn_iinc hO (lv' := [(1, .int (i24 + 1)), (0, .ref (w.2.2.1 kw))]) 1 rfl ki_1 (by decide) rfl dX4_begins_15 ?_
      refine sn_goto hO 2 (by decide) dX4_begins_18 ?_
      refine sn_sub [1, 0] rfl ?_
      exact hrc26 _ _
theorem ctX4_begins {w : sn_W} {kw : Nat} (hkw : isW kw = true) {S : sn_S} {Q : sn_S → Prop} (h : wpX4_begins w kw S Q) : sn_Ct LoX w yX4_begins (ws_ yX4_begins cX4_begins 2 none) rmX4_begins [.ref (w.2.2.1 kw)] S (sn_qV Q) sn_noE := sn_Ct_of (XX_O w) (by decide) (Nat.le_of_ble_eq_true rfl) RX4 rfl (fun C hO => wkX4_begins hO kw S hkw Q h)
def rmX0_isOf : Room := { frames := 0, cells := 0, slots := 0, locals := 0 }
/-- SnailPost.isOf(II)Z -/
def wpX0_isOf (w : sn_W) (p1 : Int32) (p2 : Int32) (Q : Int32 → Prop) : Prop :=
  ((¬ ((p1 >>> (p2 &&& 31)) &&& 1) = 1 → Q 0) ∧ (((p1 >>> (p2 &&& 31)) &&& 1) = 1 → Q 1))
theorem wkX0_isOf {w : sn_W} {C : sn_C} (hO : sn_Ok LoX w C RX0 cX0_isOf 2 (some .boolean) [] "isOf") (p1 : Int32) (p2 : Int32) (S : sn_S) (Q : Int32 → Prop) : wpX0_isOf w p1 p2 Q → sn_G LoX w rmX0_isOf (sn_qI (fun r S1 => S1 = S ∧ Q r)) sn_noE C 0 0 0 [(0, .int p1), (1, .int p2)] [] S := by
  unfold wpX0_isOf
  generalize hQq : (sn_qI (fun r S1 => S1 = S ∧ Q r)) = Qq
  refine sn_iload_n hO 0 rfl dX0_isOf_0 ?_
  refine sn_iload_n hO 1 rfl dX0_isOf_1 ?_
  refine sn_ishr hO dX0_isOf_2 ?_
  refine sn_iconst hO kc_1 dX0_isOf_3 ?_
  refine sn_iand hO dX0_isOf_4 ?_
  refine sn_iconst hO kc_1 dX0_isOf_5 ?_
  refine sn_icmp_ne hO 13 (by decide) dX0_isOf_6 ?_ ?_
  · refine sn_iconst hO kc_0 dX0_isOf_13 ?_
    subst hQq
    exact fun h => sn_zret hO (ty := .boolean) rfl rfl dX0_isOf_14 ⟨rfl, h⟩
  · refine sn_iconst hO kc_1 dX0_isOf_9 ?_
    refine sn_goto hO 14 (by decide) dX0_isOf_10 ?_
    subst hQq
    exact fun h => sn_zret hO (ty := .boolean) rfl rfl dX0_isOf_14 ⟨rfl, h⟩
theorem ctX0_isOf {w : sn_W} {p1 : Int32} {p2 : Int32} {S : sn_S} {Q : Int32 → Prop} (h : wpX0_isOf w p1 p2 Q) : sn_Ct LoX w yX0_isOf (ws_ yX0_isOf cX0_isOf 2 (some .boolean)) rmX0_isOf [.int p1, .int p2] S (sn_qI (fun r S1 => S1 = S ∧ Q r)) sn_noE := sn_Ct_of (XX_O w) (by decide) (Nat.le_of_ble_eq_true rfl) RX0 rfl (fun C hO => wkX0_isOf hO p1 p2 S Q h)
def rmX0_apart : Room := { frames := 1, cells := 0, slots := 0, locals := 64 }
/-- SnailPost.apart(II)I -/
def wpX0_apart (w : sn_W) (p1 : Int32) (p2 : Int32) (Q : Int32 → Prop) : Prop :=
  Q ((if 0 ≤ ((p1 - p1 / 12 * 12) - (p2 - p2 / 12 * 12)) then ((p1 - p1 / 12 * 12) - (p2 - p2 / 12 * 12)) else 0 - ((p1 - p1 / 12 * 12) - (p2 - p2 / 12 * 12))) + (if 0 ≤ ((p1 / 12) - (p2 / 12)) then ((p1 / 12) - (p2 / 12)) else 0 - ((p1 / 12) - (p2 / 12))))
theorem wkX0_apart {w : sn_W} {C : sn_C} (hO : sn_Ok LoX w C RX0 cX0_apart 2 (some .int) [] "apart") (p1 : Int32) (p2 : Int32) (S : sn_S) (Q : Int32 → Prop) : wpX0_apart w p1 p2 Q → sn_G LoX w rmX0_apart (sn_qI (fun r S1 => S1 = S ∧ Q r)) sn_noE C 0 0 0 [(0, .int p1), (1, .int p2)] [] S := by
  unfold wpX0_apart
  generalize hQq : (sn_qI (fun r S1 => S1 = S ∧ Q r)) = Qq
  refine sn_iload_n hO 0 rfl dX0_apart_0 ?_
  refine sn_bipush hO kb_12 dX0_apart_1 ?_
  refine sn_irem hO (by decide) dX0_apart_3 ?_
  refine sn_iload_n hO 1 rfl dX0_apart_4 ?_
  refine sn_bipush hO kb_12 dX0_apart_5 ?_
  refine sn_irem hO (by decide) dX0_apart_7 ?_
  refine sn_isub hO dX0_apart_8 ?_
  refine sn_mAbs hO q1136 q1137 q134 q1138 ⟨Nat.le_of_ble_eq_true rfl, Nat.le_of_ble_eq_true rfl⟩ dX0_apart_9 ?_
  refine sn_iload_n hO 0 rfl dX0_apart_12 ?_
  refine sn_bipush hO kb_12 dX0_apart_13 ?_
  refine sn_idiv hO (by decide) dX0_apart_15 ?_
  refine sn_iload_n hO 1 rfl dX0_apart_16 ?_
  refine sn_bipush hO kb_12 dX0_apart_17 ?_
  refine sn_idiv hO (by decide) dX0_apart_19 ?_
  refine sn_isub hO dX0_apart_20 ?_
  refine sn_mAbs hO q1136 q1137 q134 q1138 ⟨Nat.le_of_ble_eq_true rfl, Nat.le_of_ble_eq_true rfl⟩ dX0_apart_21 ?_
  refine sn_iadd hO dX0_apart_24 ?_
  subst hQq
  exact fun h => sn_iret hO rfl dX0_apart_25 ⟨rfl, h⟩
theorem ctX0_apart {w : sn_W} {p1 : Int32} {p2 : Int32} {S : sn_S} {Q : Int32 → Prop} (h : wpX0_apart w p1 p2 Q) : sn_Ct LoX w yX0_apart (ws_ yX0_apart cX0_apart 2 (some .int)) rmX0_apart [.int p1, .int p2] S (sn_qI (fun r S1 => S1 = S ∧ Q r)) sn_noE := sn_Ct_of (XX_O w) (by decide) (Nat.le_of_ble_eq_true rfl) RX0 rfl (fun C hO => wkX0_apart hO p1 p2 S Q h)
def rmX4_lightAt : Room := { frames := 2, cells := 0, slots := 0, locals := 85 }
/-- SnailPost$Walk.lightAt(II)I -/
def wpX4_lightAt (w : sn_W) (kw : Nat) (p1 : Int32) (p2 : Int32) (S : sn_S) (Q : Int32 → Prop) : Prop :=
  ((¬ p2 = (-1) → (vp_in 1 2 ∧ (vp_in p2 4 ∧ wpX0_apart w p1 (S.1 5 (p2).toNatClampNeg) (fun (r10 : Int32) => Q (if (0 : Int32) < ((S.1 7 (1 : Int32).toNatClampNeg) - r10) then ((S.1 7 (1 : Int32).toNatClampNeg) - r10) else (0 : Int32)))))) ∧ (p2 = (-1) → Q 0))
theorem wkX4_lightAt {w : sn_W} {C : sn_C} (hO : sn_Ok LoX w C RX4 cX4_lightAt 3 (some .int) [] "lightAt") (kw : Nat) (p1 : Int32) (p2 : Int32) (S : sn_S) (hkw : isW kw = true) (Q : Int32 → Prop) : wpX4_lightAt w kw p1 p2 S Q → sn_G LoX w rmX4_lightAt (sn_qI (fun r S1 => S1 = S ∧ Q r)) sn_noE C 0 0 0 [(0, .ref (w.2.2.1 kw)), (1, .int p1), (2, .int p2)] [] S := by
  unfold wpX4_lightAt
  generalize hQq : (sn_qI (fun r S1 => S1 = S ∧ Q r)) = Qq
  refine sn_iload_n hO 2 rfl dX4_lightAt_0 ?_
  refine sn_iconst hO kc_m1 dX4_lightAt_1 ?_
  refine sn_icmp_ne hO 9 (by decide) dX4_lightAt_2 ?_ ?_
  · refine sn_iconst hO kc_0 dX4_lightAt_9 ?_
    refine sn_aload_n hO 0 rfl dX4_lightAt_10 ?_
    refine sn_getF hO (fX4_3 kw) (atW0 (k := kw) hkw) dX4_lightAt_11 ?_
    refine sn_getFN hO fX4_32 atX_0 dX4_lightAt_14 ?_
    refine sn_getFN hO fX4_51 atX_2 dX4_lightAt_17 ?_
    refine sn_iconst hO kc_1 dX4_lightAt_20 ?_
    refine sn_iald hO atX_7 rfl dX4_lightAt_21 ?_
    refine sn_iload_n hO 1 rfl dX4_lightAt_22 ?_
    refine sn_aload_n hO 0 rfl dX4_lightAt_23 ?_
    refine sn_getF hO (fX4_3 kw) (atW0 (k := kw) hkw) dX4_lightAt_24 ?_
    refine sn_getFN hO fX4_32 atX_0 dX4_lightAt_27 ?_
    refine sn_getFN hO fX4_54 atX_2 dX4_lightAt_30 ?_
    refine sn_iload_n hO 2 rfl dX4_lightAt_33 ?_
    refine sn_iald hO atX_5 rfl dX4_lightAt_34 ?_
    refine sn_callSN hO (c2 := 0) (s2 := 0) (rm := rmX0_apart) [.int p1, .int (S.1 5 (p2).toNatClampNeg)] csX4_57 (fun h => ctX0_apart h) ⟨Nat.le_of_ble_eq_true rfl, Nat.le_of_ble_eq_true rfl⟩ rfl rfl (Nat.le_of_ble_eq_true rfl) ⟨Nat.le_of_ble_eq_true rfl, Nat.le_of_ble_eq_true rfl, rfl, rfl⟩ dX4_lightAt_35 (sn_bIp (fun r10 => ?_)) sn_x0
    refine sn_isub hO dX4_lightAt_38 ?_
    refine sn_mMax hO q1139 q660 q134 q661 ⟨Nat.le_of_ble_eq_true rfl, Nat.le_of_ble_eq_true rfl⟩ dX4_lightAt_39 ?_
    subst hQq
    exact fun h => sn_iret hO rfl dX4_lightAt_42 ⟨rfl, h⟩
  · refine sn_iconst hO kc_0 dX4_lightAt_5 ?_
    refine sn_goto hO 42 (by decide) dX4_lightAt_6 ?_
    subst hQq
    exact fun h => sn_iret hO rfl dX4_lightAt_42 ⟨rfl, h⟩
theorem ctX4_lightAt {w : sn_W} {kw : Nat} {p1 : Int32} {p2 : Int32} (hkw : isW kw = true) {S : sn_S} {Q : Int32 → Prop} (h : wpX4_lightAt w kw p1 p2 S Q) : sn_Ct LoX w yX4_lightAt (ws_ yX4_lightAt cX4_lightAt 3 (some .int)) rmX4_lightAt [.ref (w.2.2.1 kw), .int p1, .int p2] S (sn_qI (fun r S1 => S1 = S ∧ Q r)) sn_noE := sn_Ct_of (XX_O w) (by decide) (Nat.le_of_ble_eq_true rfl) RX4 rfl (fun C hO => wkX4_lightAt hO kw p1 p2 S hkw Q h)
def rmJ12_bitCount : Room := { frames := 0, cells := 0, slots := 0, locals := 0 }
/-- java/lang/Integer.bitCount(I)I -/
def wpJ12_bitCount (w : sn_W) (p1 : Int32) (Q : Int32 → Prop) : Prop :=
  sn_lt (p1 - ((UInt32.toInt32 (Int32.toUInt32 p1 >>> (Int32.toUInt32 1 &&& Int32.toUInt32 31))) &&& 1431655765)) (fun x10 => sn_lt ((x10 &&& 858993459) + ((UInt32.toInt32 (Int32.toUInt32 x10 >>> (Int32.toUInt32 2 &&& Int32.toUInt32 31))) &&& 858993459)) (fun x11 => sn_lt ((x11 + (UInt32.toInt32 (Int32.toUInt32 x11 >>> (Int32.toUInt32 4 &&& Int32.toUInt32 31)))) &&& 252645135) (fun x12 => sn_lt (x12 + (UInt32.toInt32 (Int32.toUInt32 x12 >>> (Int32.toUInt32 8 &&& Int32.toUInt32 31)))) (fun x13 => sn_lt (x13 + (UInt32.toInt32 (Int32.toUInt32 x13 >>> (Int32.toUInt32 16 &&& Int32.toUInt32 31)))) (fun x14 => Q (x14 &&& 63))))))
theorem wkJ12_bitCount {w : sn_W} {C : sn_C} (hO : sn_Ok LoX w C RJ12 cJ12_bitCount 1 (some .int) [] "bitCount") (p1 : Int32) (S : sn_S) (Q : Int32 → Prop) : wpJ12_bitCount w p1 Q → sn_G LoX w rmJ12_bitCount (sn_qI (fun r S1 => S1 = S ∧ Q r)) sn_noE C 0 0 0 [(0, .int p1)] [] S := by
  unfold wpJ12_bitCount
  generalize hQq : (sn_qI (fun r S1 => S1 = S ∧ Q r)) = Qq
  refine sn_iload_n hO 0 rfl dJ12_bitCount_0 ?_
  refine sn_iload_n hO 0 rfl dJ12_bitCount_1 ?_
  refine sn_iconst hO kc_1 dJ12_bitCount_2 ?_
  refine sn_iushr hO dJ12_bitCount_3 ?_
  refine sn_ldc_w hO q1146 dJ12_bitCount_4 ?_
  refine sn_iand hO dJ12_bitCount_7 ?_
  refine sn_isub hO dJ12_bitCount_8 ?_
  refine sn_nmI (fun x10 => ?_)
  refine sn_istore_n hO (lv' := [(0, .int x10)]) (by decide) rfl dJ12_bitCount_9 ?_
  refine sn_iload_n hO 0 rfl dJ12_bitCount_10 ?_
  refine sn_ldc_w hO q1147 dJ12_bitCount_11 ?_
  refine sn_iand hO dJ12_bitCount_14 ?_
  refine sn_iload_n hO 0 rfl dJ12_bitCount_15 ?_
  refine sn_iconst hO kc_2 dJ12_bitCount_16 ?_
  refine sn_iushr hO dJ12_bitCount_17 ?_
  refine sn_ldc_w hO q1147 dJ12_bitCount_18 ?_
  refine sn_iand hO dJ12_bitCount_21 ?_
  refine sn_iadd hO dJ12_bitCount_22 ?_
  refine sn_nmI (fun x11 => ?_)
  refine sn_istore_n hO (lv' := [(0, .int x11)]) (by decide) rfl dJ12_bitCount_23 ?_
  refine sn_iload_n hO 0 rfl dJ12_bitCount_24 ?_
  refine sn_iload_n hO 0 rfl dJ12_bitCount_25 ?_
  refine sn_iconst hO kc_4 dJ12_bitCount_26 ?_
  refine sn_iushr hO dJ12_bitCount_27 ?_
  refine sn_iadd hO dJ12_bitCount_28 ?_
  refine sn_ldc_w hO q1148 dJ12_bitCount_29 ?_
  refine sn_iand hO dJ12_bitCount_32 ?_
  refine sn_nmI (fun x12 => ?_)
  refine sn_istore_n hO (lv' := [(0, .int x12)]) (by decide) rfl dJ12_bitCount_33 ?_
  refine sn_iload_n hO 0 rfl dJ12_bitCount_34 ?_
  refine sn_iload_n hO 0 rfl dJ12_bitCount_35 ?_
  refine sn_bipush hO kb_8 dJ12_bitCount_36 ?_
  refine sn_iushr hO dJ12_bitCount_38 ?_
  refine sn_iadd hO dJ12_bitCount_39 ?_
  refine sn_nmI (fun x13 => ?_)
  refine sn_istore_n hO (lv' := [(0, .int x13)]) (by decide) rfl dJ12_bitCount_40 ?_
  refine sn_iload_n hO 0 rfl dJ12_bitCount_41 ?_
  refine sn_iload_n hO 0 rfl dJ12_bitCount_42 ?_
  refine sn_bipush hO kb_16 dJ12_bitCount_43 ?_
  refine sn_iushr hO dJ12_bitCount_45 ?_
  refine sn_iadd hO dJ12_bitCount_46 ?_
  refine sn_nmI (fun x14 => ?_)
  refine sn_istore_n hO (lv' := [(0, .int x14)]) (by decide) rfl dJ12_bitCount_47 ?_
  refine sn_iload_n hO 0 rfl dJ12_bitCount_48 ?_
  refine sn_bipush hO kb_63 dJ12_bitCount_49 ?_
  refine sn_iand hO dJ12_bitCount_51 ?_
  subst hQq
  exact fun h => sn_iret hO rfl dJ12_bitCount_52 ⟨rfl, h⟩
theorem ctJ12_bitCount {w : sn_W} {p1 : Int32} {S : sn_S} {Q : Int32 → Prop} (h : wpJ12_bitCount w p1 Q) : sn_Ct LoX w yJ12_bitCount (ws_ yJ12_bitCount cJ12_bitCount 1 (some .int)) rmJ12_bitCount [.int p1] S (sn_qI (fun r S1 => S1 = S ∧ Q r)) sn_noE := sn_Ct_of (XX_O w) (by decide) (Nat.le_of_ble_eq_true rfl) RJ12 rfl (fun C hO => wkJ12_bitCount hO p1 S Q h)
def rmX0_ones : Room := { frames := 1, cells := 0, slots := 0, locals := 20 }
/-- SnailPost.ones(I)I -/
def wpX0_ones (w : sn_W) (p1 : Int32) (Q : Int32 → Prop) : Prop :=
  wpJ12_bitCount w p1 (fun (r10 : Int32) => Q r10)
theorem wkX0_ones {w : sn_W} {C : sn_C} (hO : sn_Ok LoX w C RX0 cX0_ones 1 (some .int) [] "ones") (p1 : Int32) (S : sn_S) (Q : Int32 → Prop) : wpX0_ones w p1 Q → sn_G LoX w rmX0_ones (sn_qI (fun r S1 => S1 = S ∧ Q r)) sn_noE C 0 0 0 [(0, .int p1)] [] S := by
  unfold wpX0_ones
  generalize hQq : (sn_qI (fun r S1 => S1 = S ∧ Q r)) = Qq
  refine sn_iload_n hO 0 rfl dX0_ones_0 ?_
  refine sn_callS hO (c2 := 0) (s2 := 0) (rm := rmJ12_bitCount) [.int p1] csX0_100 (fun h => ctJ12_bitCount h) ⟨Nat.le_of_ble_eq_true rfl, Nat.le_of_ble_eq_true rfl⟩ rfl rfl (Nat.le_of_ble_eq_true rfl) ⟨Nat.le_of_ble_eq_true rfl, Nat.le_of_ble_eq_true rfl, rfl, rfl⟩ dX0_ones_1 (sn_bIp (fun r10 => ?_)) sn_x0
  subst hQq
  exact fun h => sn_iret hO rfl dX0_ones_4 ⟨rfl, h⟩
theorem ctX0_ones {w : sn_W} {p1 : Int32} {S : sn_S} {Q : Int32 → Prop} (h : wpX0_ones w p1 Q) : sn_Ct LoX w yX0_ones (ws_ yX0_ones cX0_ones 1 (some .int)) rmX0_ones [.int p1] S (sn_qI (fun r S1 => S1 = S ∧ Q r)) sn_noE := sn_Ct_of (XX_O w) (by decide) (Nat.le_of_ble_eq_true rfl) RX0 rfl (fun C hO => wkX0_ones hO p1 S Q h)
def rmJ13_checkIndex : Room := { frames := 1, cells := 0, slots := 0, locals := 22 }
/-- java/util/Objects.checkIndex(II)I -/
def wpJ13_checkIndex (w : sn_W) (p1 : Int32) (p2 : Int32) (Q : Int32 → Prop) : Prop :=
  wpJ7_checkIndex w p1 p2 none (fun (r10 : Int32) => Q r10)
theorem wkJ13_checkIndex {w : sn_W} {C : sn_C} (hO : sn_Ok LoX w C RJ13 cJ13_checkIndex 2 (some .int) [] "checkIndex") (p1 : Int32) (p2 : Int32) (S : sn_S) (Q : Int32 → Prop) : wpJ13_checkIndex w p1 p2 Q → sn_G LoX w rmJ13_checkIndex (sn_qI (fun r S1 => S1 = S ∧ Q r)) sn_noE C 0 0 0 [(0, .int p1), (1, .int p2)] [] S := by
  unfold wpJ13_checkIndex
  generalize hQq : (sn_qI (fun r S1 => S1 = S ∧ Q r)) = Qq
  refine sn_iload_n hO 0 rfl dJ13_checkIndex_0 ?_
  refine sn_iload_n hO 1 rfl dJ13_checkIndex_1 ?_
  refine sn_null hO dJ13_checkIndex_2 ?_
  refine sn_callS hO (c2 := 0) (s2 := 0) (rm := rmJ7_checkIndex) [.int p1, .int p2, .null] csJ13_105 (fun h => ctJ7_checkIndex h) ⟨Nat.le_of_ble_eq_true rfl, Nat.le_of_ble_eq_true rfl⟩ rfl rfl (Nat.le_of_ble_eq_true rfl) ⟨Nat.le_of_ble_eq_true rfl, Nat.le_of_ble_eq_true rfl, rfl, rfl⟩ dJ13_checkIndex_3 (sn_bIp (fun r10 => ?_)) sn_x0
  subst hQq
  exact fun h => sn_iret hO rfl dJ13_checkIndex_6 ⟨rfl, h⟩
theorem ctJ13_checkIndex {w : sn_W} {p1 : Int32} {p2 : Int32} {S : sn_S} {Q : Int32 → Prop} (h : wpJ13_checkIndex w p1 p2 Q) : sn_Ct LoX w yJ13_checkIndex (ws_ yJ13_checkIndex cJ13_checkIndex 2 (some .int)) rmJ13_checkIndex [.int p1, .int p2] S (sn_qI (fun r S1 => S1 = S ∧ Q r)) sn_noE := sn_Ct_of (XX_O w) (by decide) (Nat.le_of_ble_eq_true rfl) RJ13 rfl (fun C hO => wkJ13_checkIndex hO p1 p2 S Q h)
def rmJ2_elementData : Room := { frames := 0, cells := 0, slots := 0, locals := 0 }
/-- java/util/ArrayList.elementData(I)Ljava/lang/Object; -/
def wpJ2_elementData (w : sn_W) (a0 : Nat) (p1 : Int32) (S : sn_S) (Q : Nat → Prop) : Prop :=
  (sn_gA S a0 9 1 (fun a10 => (sn_aQ w S a10 4 p1 (fun q11 => (sn_nn q11 (fun a12 => Q a12))))))
theorem wkJ2_elementData {w : sn_W} {C : sn_C} (hO : sn_Ok LoX w C RJ2 cJ2_elementData 2 (some (.object "java/lang/Object")) [] "elementData") (a0 : Nat) (p1 : Int32) (S : sn_S) (Q : Nat → Prop) : wpJ2_elementData w a0 p1 S Q → sn_G LoX w rmJ2_elementData (sn_qA (fun r S1 => S1 = S ∧ Q r)) sn_noE C 0 0 0 [(0, .ref a0), (1, .int p1)] [] S := by
  unfold wpJ2_elementData
  generalize hQq : (sn_qA (fun r S1 => S1 = S ∧ Q r)) = Qq
  refine sn_aload_n hO 0 rfl dJ2_elementData_0 ?_
  refine sn_ogetA hO fJ2_9 dJ2_elementData_1 (fun a10 => ?_)
  refine sn_iload_n hO 1 rfl dJ2_elementData_4 ?_
  refine sn_oaldq hO rfl dJ2_elementData_5 (fun q11 => ?_)
  refine sn_deref (fun a12 => ?_)
  subst hQq
  exact fun h => sn_aret hO rfl (Or.inl ⟨_, rfl⟩) dJ2_elementData_6 ⟨rfl, h⟩
theorem ctJ2_elementData {w : sn_W} {a0 : Nat} {p1 : Int32} {S : sn_S} {Q : Nat → Prop} (h : wpJ2_elementData w a0 p1 S Q) : sn_Ct LoX w yJ2_elementData (ws_ yJ2_elementData cJ2_elementData 2 (some (.object "java/lang/Object"))) rmJ2_elementData [.ref a0, .int p1] S (sn_qA (fun r S1 => S1 = S ∧ Q r)) sn_noE := sn_Ct_of (XX_O w) (by decide) (Nat.le_of_ble_eq_true rfl) RJ2 rfl (fun C hO => wkJ2_elementData hO a0 p1 S Q h)
def rmJ2_get : Room := { frames := 2, cells := 0, slots := 0, locals := 43 }
/-- java/util/ArrayList.get(I)Ljava/lang/Object; -/
def wpJ2_get (w : sn_W) (a0 : Nat) (p1 : Int32) (S : sn_S) (Q : Nat → Prop) : Prop :=
  (sn_gI S a0 9 2 (fun x10 => wpJ13_checkIndex w p1 x10 (fun (r11 : Int32) => ((∃ fs, sn_oO S a0 9 fs) ∧ wpJ2_elementData w a0 p1 S (fun (a12 : Nat) => Q a12)))))
theorem wkJ2_get {w : sn_W} {C : sn_C} (hO : sn_Ok LoX w C RJ2 cJ2_get 2 (some (.object "java/lang/Object")) [] "get") (a0 : Nat) (p1 : Int32) (S : sn_S) (Q : Nat → Prop) : wpJ2_get w a0 p1 S Q → sn_G LoX w rmJ2_get (sn_qA (fun r S1 => S1 = S ∧ Q r)) sn_noE C 0 0 0 [(0, .ref a0), (1, .int p1)] [] S := by
  unfold wpJ2_get
  generalize hQq : (sn_qA (fun r S1 => S1 = S ∧ Q r)) = Qq
  refine sn_iload_n hO 1 rfl dJ2_get_0 ?_
  refine sn_aload_n hO 0 rfl dJ2_get_1 ?_
  refine sn_ogetI hO fJ2_48 dJ2_get_2 (fun x10 => ?_)
  refine sn_callS hO (c2 := 0) (s2 := 0) (rm := rmJ13_checkIndex) [.int p1, .int x10] csJ2_118 (fun h => ctJ13_checkIndex h) ⟨Nat.le_of_ble_eq_true rfl, Nat.le_of_ble_eq_true rfl⟩ rfl rfl (Nat.le_of_ble_eq_true rfl) ⟨Nat.le_of_ble_eq_true rfl, Nat.le_of_ble_eq_true rfl, rfl, rfl⟩ dJ2_get_5 (sn_bIp (fun r11 => ?_)) sn_x0
  refine sn_pop hO rfl dJ2_get_8 ?_
  refine sn_aload_n hO 0 rfl dJ2_get_9 ?_
  refine sn_iload_n hO 1 rfl dJ2_get_10 ?_
  refine sn_callV (P := (∃ fs, sn_oO S a0 9 fs) ∧ _) hO (c2 := 0) (s2 := 0) (rm := rmJ2_elementData) [.int p1] cvJ2_123 sn_RvP (fun h => ctJ2_elementData h.2) ⟨Nat.le_of_ble_eq_true rfl, Nat.le_of_ble_eq_true rfl⟩ rfl rfl (Nat.le_of_ble_eq_true rfl) ⟨Nat.le_of_ble_eq_true rfl, Nat.le_of_ble_eq_true rfl, rfl, rfl⟩ dJ2_get_11 (sn_bAp (fun a12 => ?_)) sn_x0
  subst hQq
  exact fun h => sn_aret hO rfl (Or.inl ⟨_, rfl⟩) dJ2_get_14 ⟨rfl, h⟩
theorem ctJ2_get {w : sn_W} {a0 : Nat} {p1 : Int32} {S : sn_S} {Q : Nat → Prop} (h : wpJ2_get w a0 p1 S Q) : sn_Ct LoX w yJ2_get (ws_ yJ2_get cJ2_get 2 (some (.object "java/lang/Object"))) rmJ2_get [.ref a0, .int p1] S (sn_qA (fun r S1 => S1 = S ∧ Q r)) sn_noE := sn_Ct_of (XX_O w) (by decide) (Nat.le_of_ble_eq_true rfl) RJ2 rfl (fun C hO => wkJ2_get hO a0 p1 S Q h)
def rmV_Sum (d : Nat) : Room := { frames := 2 * d + 0, cells := 0, slots := 0, locals := 100 * d + 0 }
def okV_Sum (w : sn_W) (d : Nat) (self : Nat → sn_S → sn_E → (Int64 → Prop) → Prop) : Prop := ∀ (a : Nat) (S : sn_S) (E : sn_E) (Q : Int64 → Prop), self a S E Q → (sn_Rv LoX w S a 13 ∧ sn_Ct LoX w yX14_of (ws_ yX14_of cX14_of 2 (some .long)) (rmV_Sum d) [.ref a, .ref (w.2.2.1 12)] S (sn_qL (fun r S1 => S1 = S ∧ Q r)) E) ∨ (sn_Rv LoX w S a 14 ∧ sn_Ct LoX w yX15_of (ws_ yX15_of cX15_of 2 (some .long)) (rmV_Sum d) [.ref a, .ref (w.2.2.1 12)] S (sn_qL (fun r S1 => S1 = S ∧ Q r)) E) ∨ (sn_Rv LoX w S a 15 ∧ sn_Ct LoX w yX16_of (ws_ yX16_of cX16_of 8 (some .long)) (rmV_Sum d) [.ref a, .ref (w.2.2.1 12)] S (sn_qL (fun r S1 => S1 = S ∧ Q r)) E)
theorem okV_Sum.use {w : sn_W} {d : Nat} {self : Nat → sn_S → sn_E → (Int64 → Prop) → Prop} (hs : okV_Sum w d self) {a : Nat} {S : sn_S} {E : sn_E} {Q : Int64 → Prop} (h : self a S E Q) : (sn_Rv LoX w S a 13 ∧ sn_Ct LoX w yX14_of (ws_ yX14_of cX14_of 2 (some .long)) (rmV_Sum d) [.ref a, .ref (w.2.2.1 12)] S (sn_qL (fun r S1 => S1 = S ∧ Q r)) E) ∨ (sn_Rv LoX w S a 14 ∧ sn_Ct LoX w yX15_of (ws_ yX15_of cX15_of 2 (some .long)) (rmV_Sum d) [.ref a, .ref (w.2.2.1 12)] S (sn_qL (fun r S1 => S1 = S ∧ Q r)) E) ∨ (sn_Rv LoX w S a 15 ∧ sn_Ct LoX w yX16_of (ws_ yX16_of cX16_of 8 (some .long)) (rmV_Sum d) [.ref a, .ref (w.2.2.1 12)] S (sn_qL (fun r S1 => S1 = S ∧ Q r)) E) := hs a S E Q h
/-- SnailPost$Number.of(LSnailPost$Setting;)J -/
def wpX14_of (w : sn_W) (a0 : Nat) (S : sn_S) (E : sn_E) (Q : Int64 → Prop) : Prop :=
  (sn_gI S a0 13 0 (fun x10 => Q (Int32.toInt64 x10)))
theorem wkX14_of {w : sn_W} {C : sn_C} {d : Nat} (hO : sn_Ok LoX w C RX14 cX14_of 2 (some .long) [] "of") (a0 : Nat) (S : sn_S) (E : sn_E) (Q : Int64 → Prop) : wpX14_of w a0 S E Q → sn_G LoX w (rmV_Sum (d + 1)) (sn_qL (fun r S1 => S1 = S ∧ Q r)) E C 0 0 0 [(0, .ref a0), (1, .ref (w.2.2.1 12))] [] S := by
  unfold wpX14_of
  generalize hQq : (sn_qL (fun r S1 => S1 = S ∧ Q r)) = Qq
  refine sn_aload_n hO 0 rfl dX14_of_0 ?_
  refine sn_ogetI hO fX14_7 dX14_of_1 (fun x10 => ?_)
  refine sn_i2l hO dX14_of_4 ?_
  subst hQq
  exact fun h => sn_lret hO rfl dX14_of_5 ⟨rfl, h⟩
theorem ctX14_of {w : sn_W} {d : Nat} {a0 : Nat} {S : sn_S} {E : sn_E} {Q : Int64 → Prop} (h : wpX14_of w a0 S E Q) : sn_Ct LoX w yX14_of (ws_ yX14_of cX14_of 2 (some .long)) (rmV_Sum (d + 1)) [.ref a0, .ref (w.2.2.1 12)] S (sn_qL (fun r S1 => S1 = S ∧ Q r)) E := sn_Ct_of (XX_O w) (by decide) (Nat.le_of_ble_eq_true rfl) RX14 rfl (fun C hO => wkX14_of hO a0 S E Q h)
/-- SnailPost$Value.of(LSnailPost$Setting;)J -/
def wpX15_of (w : sn_W) (a0 : Nat) (S : sn_S) (E : sn_E) (Q : Int64 → Prop) : Prop :=
  (sn_gI S a0 14 0 (fun x10 => (vp_in x10 10 ∧ Q (S.2.1 14 (x10).toNatClampNeg))))
theorem wkX15_of {w : sn_W} {C : sn_C} {d : Nat} (hO : sn_Ok LoX w C RX15 cX15_of 2 (some .long) [] "of") (a0 : Nat) (S : sn_S) (E : sn_E) (Q : Int64 → Prop) : wpX15_of w a0 S E Q → sn_G LoX w (rmV_Sum (d + 1)) (sn_qL (fun r S1 => S1 = S ∧ Q r)) E C 0 0 0 [(0, .ref a0), (1, .ref (w.2.2.1 12))] [] S := by
  unfold wpX15_of
  generalize hQq : (sn_qL (fun r S1 => S1 = S ∧ Q r)) = Qq
  refine sn_aload_n hO 1 rfl dX15_of_0 ?_
  refine sn_getFN hO fX15_13 atX_12 dX15_of_1 ?_
  refine sn_aload_n hO 0 rfl dX15_of_4 ?_
  refine sn_ogetI hO fX15_7 dX15_of_5 (fun x10 => ?_)
  refine sn_lald hO atX_14 rfl dX15_of_8 ?_
  subst hQq
  exact fun h => sn_lret hO rfl dX15_of_9 ⟨rfl, h⟩
theorem ctX15_of {w : sn_W} {d : Nat} {a0 : Nat} {S : sn_S} {E : sn_E} {Q : Int64 → Prop} (h : wpX15_of w a0 S E Q) : sn_Ct LoX w yX15_of (ws_ yX15_of cX15_of 2 (some .long)) (rmV_Sum (d + 1)) [.ref a0, .ref (w.2.2.1 12)] S (sn_qL (fun r S1 => S1 = S ∧ Q r)) E := sn_Ct_of (XX_O w) (by decide) (Nat.le_of_ble_eq_true rfl) RX15 rfl (fun C hO => wkX15_of hO a0 S E Q h)
/-- SnailPost$Two.of(LSnailPost$Setting;)J -/
def wpX16_of (w : sn_W) (self : Nat → sn_S → sn_E → (Int64 → Prop) → Prop) (a0 : Nat) (S : sn_S) (E : sn_E) (Q : Int64 → Prop) : Prop :=
  (sn_gA S a0 15 1 (fun a10 => self a10 S E (fun (r11 : Int64) => (sn_gA S a0 15 2 (fun a12 => self a12 S E (fun (r13 : Int64) => (sn_gI S a0 15 0 (fun x14 => sn_jn (κ := Prop) ((sn_gI S a0 15 0 (fun x16 => sn_jn (fun (v17 : Int64) => ((0 < (lg_cmp v17 1000000000) → (E "SnailPost$Broken" (w.2.2.1 13) S)) ∧ (¬ 0 < (lg_cmp v17 1000000000) → ((0 ≤ (lg_cmp v17 (-1000000000)) → Q v17) ∧ (¬ 0 ≤ (lg_cmp v17 (-1000000000)) → (E "SnailPost$Broken" (w.2.2.1 13) S)))))) (fun (k18 : Int64 → Prop) => ((¬ x16 = 43 → (sn_gI S a0 15 0 (fun x19 => ((¬ x19 = 45 → (sn_gI S a0 15 0 (fun x20 => ((¬ x20 = 42 → (¬ r13 = 0 ∧ k18 (r11 / r13))) ∧ (x20 = 42 → k18 (r11 * r13)))))) ∧ (x19 = 45 → k18 (r11 - r13)))))) ∧ (x16 = 43 → k18 (r11 + r13))))))) (fun (k15 : Prop) => ((¬ x14 = 47 → k15) ∧ (x14 = 47 → ((¬ (lg_cmp r13 0) = 0 → k15) ∧ ((lg_cmp r13 0) = 0 → (E "SnailPost$Broken" (w.2.2.1 13) S))))))))))))))
theorem wkX16_of {w : sn_W} {C : sn_C} {d : Nat} {self : Nat → sn_S → sn_E → (Int64 → Prop) → Prop} (hself : okV_Sum w d self) (hO : sn_Ok LoX w C RX16 cX16_of 8 (some .long) [] "of") (a0 : Nat) (S : sn_S) (E : sn_E) (Q : Int64 → Prop) : wpX16_of w self a0 S E Q → sn_G LoX w (rmV_Sum (d + 1)) (sn_qL (fun r S1 => S1 = S ∧ Q r)) E C 0 0 0 [(0, .ref a0), (1, .ref (w.2.2.1 12))] [] S := by
  unfold wpX16_of
  generalize hQq : (sn_qL (fun r S1 => S1 = S ∧ Q r)) = Qq
  refine sn_aload_n hO 0 rfl dX16_of_0 ?_
  refine sn_ogetA hO fX16_15 dX16_of_1 (fun a10 => ?_)
  refine sn_aload_n hO 1 rfl dX16_of_4 ?_
  refine sn_callA3 hO (c2 := 0) (s2 := 0) (rm := (rmV_Sum d)) [.ref (w.2.2.1 12)] cvX16_22_1 cvX16_22_2 cvX16_22_3 (fun h => okV_Sum.use hself h) ⟨by simp only [rmV_Sum]; omega, by simp only [rmV_Sum]; omega, by simp only [rmV_Sum]; omega, by simp only [rmV_Sum]; omega⟩ rfl rfl (Nat.le_of_ble_eq_true rfl) ⟨Nat.le_of_ble_eq_true rfl, Nat.le_of_ble_eq_true rfl, rfl, rfl⟩ dX16_of_5 (sn_bLp (fun r11 => ?_)) (sn_xE hO)
  refine sn_lstore_n hO (lv' := [(2, .long r11), (0, .ref a0), (1, .ref (w.2.2.1 12))]) (by decide) rfl dX16_of_8 ?_
  refine sn_aload_n hO 1 rfl dX16_of_9 ?_
  refine sn_ogetA hO fX16_19 dX16_of_10 (fun a12 => ?_)
  refine sn_aload_n hO 2 rfl dX16_of_13 ?_
  refine sn_callA3 hO (c2 := 0) (s2 := 0) (rm := (rmV_Sum d)) [.ref (w.2.2.1 12)] cvX16_22_1 cvX16_22_2 cvX16_22_3 (fun h => okV_Sum.use hself h) ⟨by simp only [rmV_Sum]; omega, by simp only [rmV_Sum]; omega, by simp only [rmV_Sum]; omega, by simp only [rmV_Sum]; omega⟩ rfl rfl (Nat.le_of_ble_eq_true rfl) ⟨Nat.le_of_ble_eq_true rfl, Nat.le_of_ble_eq_true rfl, rfl, rfl⟩ dX16_of_14 (sn_bLp (fun r13 => ?_)) (sn_xE hO)
  refine sn_lstore hO (lv' := [(4, .long r13), (2, .long r11), (0, .ref a0), (1, .ref (w.2.2.1 12))]) (by decide) rfl dX16_of_17 ?_
  refine sn_aload_n hO 2 rfl dX16_of_19 ?_
  refine sn_ogetI hO fX16_9 dX16_of_20 (fun x14 => ?_)
  refine sn_bipush hO kb_47 dX16_of_23 ?_
  refine sn_jn_walk (fun (k : Prop) => k → sn_G LoX w (rmV_Sum (d + 1)) Qq E C 0 0 40 [(0, .ref a0), (1, .ref (w.2.2.1 12)), (2, .long r11), (4, .long r13)] [] S) ?_ ?_
  · refine sn_aload_n hO 0 rfl dX16_of_40 ?_
    refine sn_ogetI hO fX16_9 dX16_of_41 (fun x16 => ?_)
    refine sn_bipush hO kb_43 dX16_of_44 ?_
    refine sn_jn_walk (fun (k : Int64 → Prop) => ∀ (v17 : Int64), k v17 → sn_G LoX w (rmV_Sum (d + 1)) Qq E C 0 0 92 [(1, .ref (w.2.2.1 12))] [.long v17] S) ?_ ?_
    · intro v17
      refine sn_lstore hO (lv' := [(6, .long v17), (1, .ref (w.2.2.1 12))]) (by decide) rfl dX16_of_92 ?_
      refine sn_lload hO 0 rfl dX16_of_94 ?_
      refine sn_ldc2 hO q1193 dX16_of_96 ?_
      refine sn_lcmp hO dX16_of_99 ?_
      refine sn_if_gt hO 112 (by decide) dX16_of_100 ?_ ?_
      · refine sn_aload_n hO 1 rfl dX16_of_112 ?_
        refine sn_getFN hO fX16_26 atX_12 dX16_of_113 ?_
        exact sn_athrow hO (fun _ => sn_ws_get w S atX_13.1 atX_13.2) rfl dX16_of_116 (sn_xout hO)
      · refine sn_lload hO 0 rfl dX16_of_103 ?_
        refine sn_ldc2 hO q1194 dX16_of_105 ?_
        refine sn_lcmp hO dX16_of_108 ?_
        refine sn_if_ge hO 117 (by decide) dX16_of_109 ?_ ?_
        · refine sn_lload hO 0 rfl dX16_of_117 ?_
          subst hQq
          exact fun h => sn_lret hO rfl dX16_of_119 ⟨rfl, h⟩
        · refine sn_aload_n hO 1 rfl dX16_of_112 ?_
          refine sn_getFN hO fX16_26 atX_12 dX16_of_113 ?_
          exact sn_athrow hO (fun _ => sn_ws_get w S atX_13.1 atX_13.2) rfl dX16_of_116 (sn_xout hO)
    · intro k18 hk18
      refine sn_icmp_ne hO 56 (by decide) dX16_of_46 ?_ ?_
      · refine sn_aload_n hO 0 rfl dX16_of_56 ?_
        refine sn_ogetI hO fX16_9 dX16_of_57 (fun x19 => ?_)
        refine sn_bipush hO kb_45 dX16_of_60 ?_
        refine sn_icmp_ne hO 72 (by decide) dX16_of_62 ?_ ?_
        · refine sn_aload_n hO 0 rfl dX16_of_72 ?_
          refine sn_ogetI hO fX16_9 dX16_of_73 (fun x20 => ?_)
          refine sn_bipush hO kb_42 dX16_of_76 ?_
          refine sn_icmp_ne hO 88 (by decide) dX16_of_78 ?_ ?_
          · refine sn_lload_n hO 2 rfl dX16_of_88 ?_
            refine sn_lload hO 3 rfl dX16_of_89 ?_
            refine sn_ldivP hO dX16_of_91 ?_
            refine sn_sub [1] rfl ?_
            exact hk18 _
          · refine sn_lload_n hO 2 rfl dX16_of_81 ?_
            refine sn_lload hO 3 rfl dX16_of_82 ?_
            refine sn_lmul hO dX16_of_84 ?_
            refine sn_goto hO 92 (by decide) dX16_of_85 ?_
            refine sn_sub [1] rfl ?_
            exact hk18 _
        · refine sn_lload_n hO 2 rfl dX16_of_65 ?_
          refine sn_lload hO 3 rfl dX16_of_66 ?_
          refine sn_lsub hO dX16_of_68 ?_
          refine sn_goto hO 92 (by decide) dX16_of_69 ?_
          refine sn_sub [1] rfl ?_
          exact hk18 _
      · refine sn_lload_n hO 2 rfl dX16_of_49 ?_
        refine sn_lload hO 3 rfl dX16_of_50 ?_
        refine sn_ladd hO dX16_of_52 ?_
        refine sn_goto hO 92 (by decide) dX16_of_53 ?_
        refine sn_sub [1] rfl ?_
        exact hk18 _
  · intro k15 hk15
    refine sn_icmp_ne hO 40 (by decide) dX16_of_25 ?_ ?_
    · refine sn_sub [2, 3, 1, 0] rfl ?_
      exact hk15
    · refine sn_lload hO 0 rfl dX16_of_28 ?_
      refine sn_lconst hO (v := 0) rfl dX16_of_30 ?_
      refine sn_lcmp hO dX16_of_31 ?_
      refine sn_if_ne hO 40 (by decide) dX16_of_32 ?_ ?_
      · refine sn_sub [2, 3, 1, 0] rfl ?_
        exact hk15
      · refine sn_aload_n hO 3 rfl dX16_of_35 ?_
        refine sn_getFN hO fX16_26 atX_12 dX16_of_36 ?_
        exact sn_athrow hO (fun _ => sn_ws_get w S atX_13.1 atX_13.2) rfl dX16_of_39 (sn_xout hO)
theorem ctX16_of {w : sn_W} {d : Nat} {self : Nat → sn_S → sn_E → (Int64 → Prop) → Prop} (hself : okV_Sum w d self) {a0 : Nat} {S : sn_S} {E : sn_E} {Q : Int64 → Prop} (h : wpX16_of w self a0 S E Q) : sn_Ct LoX w yX16_of (ws_ yX16_of cX16_of 8 (some .long)) (rmV_Sum (d + 1)) [.ref a0, .ref (w.2.2.1 12)] S (sn_qL (fun r S1 => S1 = S ∧ Q r)) E := sn_Ct_of (XX_O w) (by decide) (Nat.le_of_ble_eq_true rfl) RX16 rfl (fun C hO => wkX16_of hself hO a0 S E Q h)
def wpV_Sum (w : sn_W) : Nat → Nat → sn_S → sn_E → (Int64 → Prop) → Prop
  | 0 => fun _ _ _ _ => False
  | d + 1 => fun a S E Q => ((∃ fs, sn_oO S a 13 fs) ∧ wpX14_of w a S E Q) ∨ ((∃ fs, sn_oO S a 14 fs) ∧ wpX15_of w a S E Q) ∨ ((∃ fs, sn_oO S a 15 fs) ∧ wpX16_of w (wpV_Sum w d) a S E Q)
theorem okV_Sum_all {w : sn_W} : ∀ d : Nat, okV_Sum w d (wpV_Sum w d)
  | 0 => fun _ _ _ _ h => h.elim
  | d + 1 => fun a S E Q h => h.elim (fun h => Or.inl ⟨sn_RvP h, ctX14_of h.2⟩) (fun h => Or.inr (h.elim (fun h => Or.inl ⟨sn_RvP h, ctX15_of h.2⟩) (fun h => Or.inr ⟨sn_RvP h, ctX16_of (okV_Sum_all d) h.2⟩)))
theorem ctV_Sum {w : sn_W} (d : Nat) {a : Nat} {S : sn_S} {E : sn_E} {Q : Int64 → Prop} (h : wpV_Sum w d a S E Q) : (sn_Rv LoX w S a 13 ∧ sn_Ct LoX w yX14_of (ws_ yX14_of cX14_of 2 (some .long)) (rmV_Sum d) [.ref a, .ref (w.2.2.1 12)] S (sn_qL (fun r S1 => S1 = S ∧ Q r)) E) ∨ (sn_Rv LoX w S a 14 ∧ sn_Ct LoX w yX15_of (ws_ yX15_of cX15_of 2 (some .long)) (rmV_Sum d) [.ref a, .ref (w.2.2.1 12)] S (sn_qL (fun r S1 => S1 = S ∧ Q r)) E) ∨ (sn_Rv LoX w S a 15 ∧ sn_Ct LoX w yX16_of (ws_ yX16_of cX16_of 8 (some .long)) (rmV_Sum d) [.ref a, .ref (w.2.2.1 12)] S (sn_qL (fun r S1 => S1 = S ∧ Q r)) E) := okV_Sum_all d a S E Q h
def rmV_Test (d : Nat) : Room := { frames := 2 * d + 129, cells := 0, slots := 0, locals := 100 * d + 6427 }
def okV_Test (w : sn_W) (d : Nat) (self : Nat → sn_S → sn_E → (Int32 → Prop) → Prop) : Prop := ∀ (a : Nat) (S : sn_S) (E : sn_E) (Q : Int32 → Prop), self a S E Q → (sn_Rv LoX w S a 16 ∧ sn_Ct LoX w yX18_is (ws_ yX18_is cX18_is 6 (some .boolean)) (rmV_Test d) [.ref a, .ref (w.2.2.1 12)] S (sn_qI (fun r S1 => S1 = S ∧ Q r)) E) ∨ (sn_Rv LoX w S a 17 ∧ sn_Ct LoX w yX19_is (ws_ yX19_is cX19_is 2 (some .boolean)) (rmV_Test d) [.ref a, .ref (w.2.2.1 12)] S (sn_qI (fun r S1 => S1 = S ∧ Q r)) E) ∨ (sn_Rv LoX w S a 18 ∧ sn_Ct LoX w yX20_is (ws_ yX20_is cX20_is 3 (some .boolean)) (rmV_Test d) [.ref a, .ref (w.2.2.1 12)] S (sn_qI (fun r S1 => S1 = S ∧ Q r)) E)
theorem okV_Test.use {w : sn_W} {d : Nat} {self : Nat → sn_S → sn_E → (Int32 → Prop) → Prop} (hs : okV_Test w d self) {a : Nat} {S : sn_S} {E : sn_E} {Q : Int32 → Prop} (h : self a S E Q) : (sn_Rv LoX w S a 16 ∧ sn_Ct LoX w yX18_is (ws_ yX18_is cX18_is 6 (some .boolean)) (rmV_Test d) [.ref a, .ref (w.2.2.1 12)] S (sn_qI (fun r S1 => S1 = S ∧ Q r)) E) ∨ (sn_Rv LoX w S a 17 ∧ sn_Ct LoX w yX19_is (ws_ yX19_is cX19_is 2 (some .boolean)) (rmV_Test d) [.ref a, .ref (w.2.2.1 12)] S (sn_qI (fun r S1 => S1 = S ∧ Q r)) E) ∨ (sn_Rv LoX w S a 18 ∧ sn_Ct LoX w yX20_is (ws_ yX20_is cX20_is 3 (some .boolean)) (rmV_Test d) [.ref a, .ref (w.2.2.1 12)] S (sn_qI (fun r S1 => S1 = S ∧ Q r)) E) := hs a S E Q h
/-- SnailPost$Compare.is(LSnailPost$Setting;)Z -/
def wpX18_is (w : sn_W) (a0 : Nat) (S : sn_S) (E : sn_E) (Q : Int32 → Prop) : Prop :=
  (sn_gA S a0 16 1 (fun a10 => wpV_Sum w 64 a10 S E (fun (r11 : Int64) => (sn_gA S a0 16 2 (fun a12 => wpV_Sum w 64 a12 S E (fun (r13 : Int64) => (sn_gI S a0 16 0 (fun x14 => ((¬ x14 = 60 → (sn_gI S a0 16 0 (fun x15 => ((¬ x15 = 62 → ((¬ (lg_cmp r11 r13) = 0 → Q 0) ∧ ((lg_cmp r11 r13) = 0 → Q 1))) ∧ (x15 = 62 → (((lg_cmp r11 r13) ≤ 0 → Q 0) ∧ (¬ (lg_cmp r11 r13) ≤ 0 → Q 1))))))) ∧ (x14 = 60 → ((0 ≤ (lg_cmp r11 r13) → Q 0) ∧ (¬ 0 ≤ (lg_cmp r11 r13) → Q 1))))))))))))
theorem wkX18_is {w : sn_W} {C : sn_C} {d : Nat} (hO : sn_Ok LoX w C RX18 cX18_is 6 (some .boolean) [] "is") (a0 : Nat) (S : sn_S) (E : sn_E) (Q : Int32 → Prop) : wpX18_is w a0 S E Q → sn_G LoX w (rmV_Test (d + 1)) (sn_qI (fun r S1 => S1 = S ∧ Q r)) E C 0 0 0 [(0, .ref a0), (1, .ref (w.2.2.1 12))] [] S := by
  unfold wpX18_is
  generalize hQq : (sn_qI (fun r S1 => S1 = S ∧ Q r)) = Qq
  refine sn_aload_n hO 0 rfl dX18_is_0 ?_
  refine sn_ogetA hO fX18_13 dX18_is_1 (fun a10 => ?_)
  refine sn_aload_n hO 1 rfl dX18_is_4 ?_
  refine sn_callA3 hO (c2 := 0) (s2 := 0) (rm := (rmV_Sum 64)) [.ref (w.2.2.1 12)] cvX18_20_1 cvX18_20_2 cvX18_20_3 (fun h => ctV_Sum 64 h) ⟨by simp only [rmV_Sum, rmV_Test]; omega, by simp only [rmV_Sum, rmV_Test]; omega, by simp only [rmV_Sum, rmV_Test]; omega, by simp only [rmV_Sum, rmV_Test]; omega⟩ rfl rfl (Nat.le_of_ble_eq_true rfl) ⟨Nat.le_of_ble_eq_true rfl, Nat.le_of_ble_eq_true rfl, rfl, rfl⟩ dX18_is_5 (sn_bLp (fun r11 => ?_)) (sn_xE hO)
  refine sn_lstore_n hO (lv' := [(2, .long r11), (0, .ref a0), (1, .ref (w.2.2.1 12))]) (by decide) rfl dX18_is_8 ?_
  refine sn_aload_n hO 1 rfl dX18_is_9 ?_
  refine sn_ogetA hO fX18_17 dX18_is_10 (fun a12 => ?_)
  refine sn_aload_n hO 2 rfl dX18_is_13 ?_
  refine sn_callA3 hO (c2 := 0) (s2 := 0) (rm := (rmV_Sum 64)) [.ref (w.2.2.1 12)] cvX18_20_1 cvX18_20_2 cvX18_20_3 (fun h => ctV_Sum 64 h) ⟨by simp only [rmV_Sum, rmV_Test]; omega, by simp only [rmV_Sum, rmV_Test]; omega, by simp only [rmV_Sum, rmV_Test]; omega, by simp only [rmV_Sum, rmV_Test]; omega⟩ rfl rfl (Nat.le_of_ble_eq_true rfl) ⟨Nat.le_of_ble_eq_true rfl, Nat.le_of_ble_eq_true rfl, rfl, rfl⟩ dX18_is_14 (sn_bLp (fun r13 => ?_)) (sn_xE hO)
  refine sn_lstore hO (lv' := [(4, .long r13), (2, .long r11), (0, .ref a0), (1, .ref (w.2.2.1 12))]) (by decide) rfl dX18_is_17 ?_
  refine sn_aload_n hO 2 rfl dX18_is_19 ?_
  refine sn_ogetI hO fX18_7 dX18_is_20 (fun x14 => ?_)
  refine sn_bipush hO kb_60 dX18_is_23 ?_
  refine sn_icmp_ne hO 43 (by decide) dX18_is_25 ?_ ?_
  · refine sn_aload_n hO 2 rfl dX18_is_43 ?_
    refine sn_ogetI hO fX18_7 dX18_is_44 (fun x15 => ?_)
    refine sn_bipush hO kb_62 dX18_is_47 ?_
    refine sn_icmp_ne hO 67 (by decide) dX18_is_49 ?_ ?_
    · refine sn_lload_n hO 1 rfl dX18_is_67 ?_
      refine sn_lload hO 0 rfl dX18_is_68 ?_
      refine sn_lcmp hO dX18_is_70 ?_
      refine sn_if_ne hO 78 (by decide) dX18_is_71 ?_ ?_
      · refine sn_iconst hO kc_0 dX18_is_78 ?_
        subst hQq
        exact fun h => sn_zret hO (ty := .boolean) rfl rfl dX18_is_79 ⟨rfl, h⟩
      · refine sn_iconst hO kc_1 dX18_is_74 ?_
        refine sn_goto hO 79 (by decide) dX18_is_75 ?_
        subst hQq
        exact fun h => sn_zret hO (ty := .boolean) rfl rfl dX18_is_79 ⟨rfl, h⟩
    · refine sn_lload_n hO 1 rfl dX18_is_52 ?_
      refine sn_lload hO 0 rfl dX18_is_53 ?_
      refine sn_lcmp hO dX18_is_55 ?_
      refine sn_if_le hO 63 (by decide) dX18_is_56 ?_ ?_
      · refine sn_iconst hO kc_0 dX18_is_63 ?_
        refine sn_goto hO 79 (by decide) dX18_is_64 ?_
        subst hQq
        exact fun h => sn_zret hO (ty := .boolean) rfl rfl dX18_is_79 ⟨rfl, h⟩
      · refine sn_iconst hO kc_1 dX18_is_59 ?_
        refine sn_goto hO 79 (by decide) dX18_is_60 ?_
        subst hQq
        exact fun h => sn_zret hO (ty := .boolean) rfl rfl dX18_is_79 ⟨rfl, h⟩
  · refine sn_lload_n hO 1 rfl dX18_is_28 ?_
    refine sn_lload hO 0 rfl dX18_is_29 ?_
    refine sn_lcmp hO dX18_is_31 ?_
    refine sn_if_ge hO 39 (by decide) dX18_is_32 ?_ ?_
    · refine sn_iconst hO kc_0 dX18_is_39 ?_
      refine sn_goto hO 79 (by decide) dX18_is_40 ?_
      subst hQq
      exact fun h => sn_zret hO (ty := .boolean) rfl rfl dX18_is_79 ⟨rfl, h⟩
    · refine sn_iconst hO kc_1 dX18_is_35 ?_
      refine sn_goto hO 79 (by decide) dX18_is_36 ?_
      subst hQq
      exact fun h => sn_zret hO (ty := .boolean) rfl rfl dX18_is_79 ⟨rfl, h⟩
theorem ctX18_is {w : sn_W} {d : Nat} {a0 : Nat} {S : sn_S} {E : sn_E} {Q : Int32 → Prop} (h : wpX18_is w a0 S E Q) : sn_Ct LoX w yX18_is (ws_ yX18_is cX18_is 6 (some .boolean)) (rmV_Test (d + 1)) [.ref a0, .ref (w.2.2.1 12)] S (sn_qI (fun r S1 => S1 = S ∧ Q r)) E := sn_Ct_of (XX_O w) (by decide) (Nat.le_of_ble_eq_true rfl) RX18 rfl (fun C hO => wkX18_is hO a0 S E Q h)
/-- SnailPost$Not.is(LSnailPost$Setting;)Z -/
def wpX19_is (w : sn_W) (self : Nat → sn_S → sn_E → (Int32 → Prop) → Prop) (a0 : Nat) (S : sn_S) (E : sn_E) (Q : Int32 → Prop) : Prop :=
  (sn_gA S a0 17 0 (fun a10 => self a10 S E (fun (r11 : Int32) => ((¬ r11 = 0 → Q 0) ∧ (r11 = 0 → Q 1)))))
theorem wkX19_is {w : sn_W} {C : sn_C} {d : Nat} {self : Nat → sn_S → sn_E → (Int32 → Prop) → Prop} (hself : okV_Test w d self) (hO : sn_Ok LoX w C RX19 cX19_is 2 (some .boolean) [] "is") (a0 : Nat) (S : sn_S) (E : sn_E) (Q : Int32 → Prop) : wpX19_is w self a0 S E Q → sn_G LoX w (rmV_Test (d + 1)) (sn_qI (fun r S1 => S1 = S ∧ Q r)) E C 0 0 0 [(0, .ref a0), (1, .ref (w.2.2.1 12))] [] S := by
  unfold wpX19_is
  generalize hQq : (sn_qI (fun r S1 => S1 = S ∧ Q r)) = Qq
  refine sn_aload_n hO 0 rfl dX19_is_0 ?_
  refine sn_ogetA hO fX19_7 dX19_is_1 (fun a10 => ?_)
  refine sn_aload_n hO 1 rfl dX19_is_4 ?_
  refine sn_callA3 hO (c2 := 0) (s2 := 0) (rm := (rmV_Test d)) [.ref (w.2.2.1 12)] cvX19_13_1 cvX19_13_2 cvX19_13_3 (fun h => okV_Test.use hself h) ⟨by simp only [rmV_Test]; omega, by simp only [rmV_Test]; omega, by simp only [rmV_Test]; omega, by simp only [rmV_Test]; omega⟩ rfl rfl (Nat.le_of_ble_eq_true rfl) ⟨Nat.le_of_ble_eq_true rfl, Nat.le_of_ble_eq_true rfl, rfl, rfl⟩ dX19_is_5 (sn_bIp (fun r11 => ?_)) (sn_xE hO)
  refine sn_if_ne hO 15 (by decide) dX19_is_8 ?_ ?_
  · refine sn_iconst hO kc_0 dX19_is_15 ?_
    subst hQq
    exact fun h => sn_zret hO (ty := .boolean) rfl rfl dX19_is_16 ⟨rfl, h⟩
  · refine sn_iconst hO kc_1 dX19_is_11 ?_
    refine sn_goto hO 16 (by decide) dX19_is_12 ?_
    subst hQq
    exact fun h => sn_zret hO (ty := .boolean) rfl rfl dX19_is_16 ⟨rfl, h⟩
theorem ctX19_is {w : sn_W} {d : Nat} {self : Nat → sn_S → sn_E → (Int32 → Prop) → Prop} (hself : okV_Test w d self) {a0 : Nat} {S : sn_S} {E : sn_E} {Q : Int32 → Prop} (h : wpX19_is w self a0 S E Q) : sn_Ct LoX w yX19_is (ws_ yX19_is cX19_is 2 (some .boolean)) (rmV_Test (d + 1)) [.ref a0, .ref (w.2.2.1 12)] S (sn_qI (fun r S1 => S1 = S ∧ Q r)) E := sn_Ct_of (XX_O w) (by decide) (Nat.le_of_ble_eq_true rfl) RX19 rfl (fun C hO => wkX19_is hself hO a0 S E Q h)
/-- SnailPost$Several.is(LSnailPost$Setting;)Z -/
def wpX20_is (w : sn_W) (self : Nat → sn_S → sn_E → (Int32 → Prop) → Prop) (a0 : Nat) (S : sn_S) (E : sn_E) (Q : Int32 → Prop) : Prop :=
  sn_jn (κ := Prop) ((sn_gI S a0 18 0 (fun x11 => ((¬ x11 = 0 → Q 0) ∧ (x11 = 0 → Q 1))))) (fun (k10 : Prop) => sn_lp1 (fun (rc13 : Int32 → Prop) (i12 : Int32) => (sn_gA S a0 18 1 (fun a14 => ((∃ fs, sn_oO S a14 9 fs) ∧ wpJ2_size w a14 S (fun (r15 : Int32) => ((r15 ≤ i12 → (sn_gI S a0 18 0 (fun x16 => (narrow .boolean (.int x16) = .int x16 ∧ Q x16)))) ∧ (¬ r15 ≤ i12 → (sn_gA S a0 18 1 (fun a17 => ((∃ fs, sn_oO S a17 9 fs) ∧ wpJ2_get w a17 i12 S (fun (a18 : Nat) => (isT S a18 ∧ self a18 S E (fun (r19 : Int32) => (sn_gI S a0 18 0 (fun x20 => ((r19 = x20 → rc13 (i12 + 1)) ∧ (¬ r19 = x20 → k10))))))))))))))))) 0)
theorem wkX20_is {w : sn_W} {C : sn_C} {d : Nat} {self : Nat → sn_S → sn_E → (Int32 → Prop) → Prop} (hself : okV_Test w d self) (hO : sn_Ok LoX w C RX20 cX20_is 3 (some .boolean) [] "is") (a0 : Nat) (S : sn_S) (E : sn_E) (Q : Int32 → Prop) : wpX20_is w self a0 S E Q → sn_G LoX w (rmV_Test (d + 1)) (sn_qI (fun r S1 => S1 = S ∧ Q r)) E C 0 0 0 [(0, .ref a0), (1, .ref (w.2.2.1 12))] [] S := by
  unfold wpX20_is
  generalize hQq : (sn_qI (fun r S1 => S1 = S ∧ Q r)) = Qq
  refine sn_iconst hO kc_0 dX20_is_0 ?_
  refine sn_istore_n hO (lv' := [(2, .int 0), (0, .ref a0), (1, .ref (w.2.2.1 12))]) (by decide) rfl dX20_is_1 ?_
  refine sn_jn_walk (fun (k : Prop) => k → sn_G LoX w (rmV_Test (d + 1)) Qq E C 0 0 35 [(0, .ref a0)] [] S) ?_ ?_
  · refine sn_aload_n hO 0 rfl dX20_is_35 ?_
    refine sn_ogetI hO fX20_18 dX20_is_36 (fun x11 => ?_)
    refine sn_if_ne hO 46 (by decide) dX20_is_39 ?_ ?_
    · refine sn_iconst hO kc_0 dX20_is_46 ?_
      subst hQq
      exact fun h => sn_zret hO (ty := .boolean) rfl rfl dX20_is_47 ⟨rfl, h⟩
    · refine sn_iconst hO kc_1 dX20_is_42 ?_
      refine sn_goto hO 47 (by decide) dX20_is_43 ?_
      subst hQq
      exact fun h => sn_zret hO (ty := .boolean) rfl rfl dX20_is_47 ⟨rfl, h⟩
  · intro k10 hk10
    refine sn_sub [1, 2, 0] rfl ?_
    refine sn_lp1_walk (Gd := fun (i12 : Int32) => sn_G LoX w (rmV_Test (d + 1)) Qq E C 0 0 2 [(0, .ref a0), (1, .ref (w.2.2.1 12)), (2, .int i12)] [] S) ?_ _
    intro rc13 hrc13 i12
    refine sn_iload_n hO 2 rfl dX20_is_2 ?_
    refine sn_aload_n hO 0 rfl dX20_is_3 ?_
    refine sn_ogetA hO fX20_12 dX20_is_4 (fun a14 => ?_)
    refine sn_callV (P := (∃ fs, sn_oO S a14 9 fs) ∧ _) hO (c2 := 0) (s2 := 0) (rm := rmJ2_size) [] cvX20_22 sn_RvP (fun h => ctJ2_size h.2) ⟨by simp only [rmJ2_size, rmV_Test]; omega, by simp only [rmJ2_size, rmV_Test]; omega⟩ rfl rfl (Nat.le_of_ble_eq_true rfl) ⟨Nat.le_of_ble_eq_true rfl, Nat.le_of_ble_eq_true rfl, rfl, rfl⟩ dX20_is_7 (sn_bIp (fun r15 => ?_)) sn_x0
    refine sn_icmp_ge hO 54 (by decide) dX20_is_10 ?_ ?_
    · refine sn_aload_n hO 0 rfl dX20_is_54 ?_
      refine sn_ogetI hO fX20_18 dX20_is_55 (fun x16 => ?_)
      subst hQq
      exact fun h => sn_zretP hO rfl dX20_is_58 ⟨h.1, rfl, h.2⟩
    · refine sn_aload_n hO 0 rfl dX20_is_13 ?_
      refine sn_ogetA hO fX20_12 dX20_is_14 (fun a17 => ?_)
      refine sn_iload_n hO 2 rfl dX20_is_17 ?_
      refine sn_callV (P := (∃ fs, sn_oO S a17 9 fs) ∧ _) hO (c2 := 0) (s2 := 0) (rm := rmJ2_get) [.int i12] cvX20_26 sn_RvP (fun h => ctJ2_get h.2) ⟨by simp only [rmJ2_get, rmV_Test]; omega, by simp only [rmJ2_get, rmV_Test]; omega⟩ rfl rfl (Nat.le_of_ble_eq_true rfl) ⟨Nat.le_of_ble_eq_true rfl, Nat.le_of_ble_eq_true rfl, rfl, rfl⟩ dX20_is_18 (sn_bAp (fun a18 => ?_)) sn_x0
      refine sn_castRP hO isT_R q1204 dX20_is_21 ?_
      refine sn_aload_n hO 1 rfl dX20_is_24 ?_
      refine sn_callA3 hO (c2 := 0) (s2 := 0) (rm := (rmV_Test d)) [.ref (w.2.2.1 12)] cvX20_30_1 cvX20_30_2 cvX20_30_3 (fun h => okV_Test.use hself h) ⟨by simp only [rmV_Test]; omega, by simp only [rmV_Test]; omega, by simp only [rmV_Test]; omega, by simp only [rmV_Test]; omega⟩ rfl rfl (Nat.le_of_ble_eq_true rfl) ⟨Nat.le_of_ble_eq_true rfl, Nat.le_of_ble_eq_true rfl, rfl, rfl⟩ dX20_is_25 (sn_bIp (fun r19 => ?_)) (sn_xE hO)
      refine sn_aload_n hO 0 rfl dX20_is_28 ?_
      refine sn_ogetI hO fX20_18 dX20_is_29 (fun x20 => ?_)
      refine sn_icmp_eq hO 48 (by decide) dX20_is_32 ?_ ?_
      · refine sn_iinc hO (lv' := [(2, .int (i12 + 1)), (0, .ref a0), (1, .ref (w.2.2.1 12))]) 2 rfl ki_1 (by decide) rfl dX20_is_48 ?_
        refine sn_goto hO 2 (by decide) dX20_is_51 ?_
        refine sn_sub [1, 2, 0] rfl ?_
        exact hrc13 _
      · refine sn_sub [0] rfl ?_
        exact hk10
theorem ctX20_is {w : sn_W} {d : Nat} {self : Nat → sn_S → sn_E → (Int32 → Prop) → Prop} (hself : okV_Test w d self) {a0 : Nat} {S : sn_S} {E : sn_E} {Q : Int32 → Prop} (h : wpX20_is w self a0 S E Q) : sn_Ct LoX w yX20_is (ws_ yX20_is cX20_is 3 (some .boolean)) (rmV_Test (d + 1)) [.ref a0, .ref (w.2.2.1 12)] S (sn_qI (fun r S1 => S1 = S ∧ Q r)) E := sn_Ct_of (XX_O w) (by decide) (Nat.le_of_ble_eq_true rfl) RX20 rfl (fun C hO => wkX20_is hself hO a0 S E Q h)
def wpV_Test (w : sn_W) : Nat → Nat → sn_S → sn_E → (Int32 → Prop) → Prop
  | 0 => fun _ _ _ _ => False
  | d + 1 => fun a S E Q => ((∃ fs, sn_oO S a 16 fs) ∧ wpX18_is w a S E Q) ∨ ((∃ fs, sn_oO S a 17 fs) ∧ wpX19_is w (wpV_Test w d) a S E Q) ∨ ((∃ fs, sn_oO S a 18 fs) ∧ wpX20_is w (wpV_Test w d) a S E Q)
theorem okV_Test_all {w : sn_W} : ∀ d : Nat, okV_Test w d (wpV_Test w d)
  | 0 => fun _ _ _ _ h => h.elim
  | d + 1 => fun a S E Q h => h.elim (fun h => Or.inl ⟨sn_RvP h, ctX18_is h.2⟩) (fun h => Or.inr (h.elim (fun h => Or.inl ⟨sn_RvP h, ctX19_is (okV_Test_all d) h.2⟩) (fun h => Or.inr ⟨sn_RvP h, ctX20_is (okV_Test_all d) h.2⟩)))
theorem ctV_Test {w : sn_W} (d : Nat) {a : Nat} {S : sn_S} {E : sn_E} {Q : Int32 → Prop} (h : wpV_Test w d a S E Q) : (sn_Rv LoX w S a 16 ∧ sn_Ct LoX w yX18_is (ws_ yX18_is cX18_is 6 (some .boolean)) (rmV_Test d) [.ref a, .ref (w.2.2.1 12)] S (sn_qI (fun r S1 => S1 = S ∧ Q r)) E) ∨ (sn_Rv LoX w S a 17 ∧ sn_Ct LoX w yX19_is (ws_ yX19_is cX19_is 2 (some .boolean)) (rmV_Test d) [.ref a, .ref (w.2.2.1 12)] S (sn_qI (fun r S1 => S1 = S ∧ Q r)) E) ∨ (sn_Rv LoX w S a 18 ∧ sn_Ct LoX w yX20_is (ws_ yX20_is cX20_is 3 (some .boolean)) (rmV_Test d) [.ref a, .ref (w.2.2.1 12)] S (sn_qI (fun r S1 => S1 = S ∧ Q r)) E) := okV_Test_all d a S E Q h
def rmX12_tells : Room := { frames := 258, cells := 0, slots := 0, locals := 12852 }
/-- SnailPost$Clause.tells(LSnailPost$Setting;)J -/
def wpX12_tells (w : sn_W) (a0 : Nat) (S : sn_S) (Q : Int64 → Prop) : Prop :=
  (sn_gQ S a0 12 2 (fun q10 => sn_jn (κ := Prop) ((sn_gQ S a0 12 1 (fun q12 => ((q12 = none → Q 1) ∧ (∀ a13 : Nat, q12 = some a13 → (sn_gQ S a0 12 1 (fun q14 => (sn_nn q14 (fun a15 => wpV_Sum w 64 a15 S (fun cl a16 S17 => cl = "SnailPost$Broken" ∧ S17 = S ∧ Q (-4000000000)) (fun (r18 : Int64) => Q r18)))))))))) (fun (k11 : Prop) => ((q10 = none → k11) ∧ (∀ a19 : Nat, q10 = some a19 → (sn_gQ S a0 12 2 (fun q20 => (sn_nn q20 (fun a21 => wpV_Test w 64 a21 S (fun cl a22 S23 => cl = "SnailPost$Broken" ∧ S23 = S ∧ Q (-4000000000)) (fun (r24 : Int32) => ((¬ r24 = 0 → k11) ∧ (r24 = 0 → Q (-4000000000)))))))))))))
theorem wkX12_tells {w : sn_W} {C : sn_C} (hO : sn_Ok LoX w C RX12 cX12_tells 3 (some .long) (tableOf [(0, 21, 42, 37), (22, 41, 42, 37)]) "tells") (a0 : Nat) (S : sn_S) (Q : Int64 → Prop) : wpX12_tells w a0 S Q → sn_G LoX w rmX12_tells (sn_qL (fun r S1 => S1 = S ∧ Q r)) sn_noE C 0 0 0 [(0, .ref a0), (1, .ref (w.2.2.1 12))] [] S := by
  unfold wpX12_tells
  generalize hQq : (sn_qL (fun r S1 => S1 = S ∧ Q r)) = Qq
  refine sn_aload_n hO 0 rfl dX12_tells_0 ?_
  refine sn_ogetQ hO fX12_15 dX12_tells_1 (fun q10 => ?_)
  refine sn_jn_walk (fun (k : Prop) => k → sn_G LoX w rmX12_tells Qq sn_noE C 0 0 22 [(0, .ref a0), (1, .ref (w.2.2.1 12))] [] S) ?_ ?_
  · refine sn_aload_n hO 0 rfl dX12_tells_22 ?_
    refine sn_ogetQ hO fX12_27 dX12_tells_23 (fun q12 => ?_)
    refine sn_ifnonnull hO 33 (by decide) dX12_tells_26 ?_ (fun a13 => ?_)
    · refine sn_lconst hO (v := 1) rfl dX12_tells_29 ?_
      refine sn_goto hO 41 (by decide) dX12_tells_30 ?_
      subst hQq
      exact fun h => sn_lret hO rfl dX12_tells_41 ⟨rfl, h⟩
    · refine sn_aload_n hO 0 rfl dX12_tells_33 ?_
      refine sn_ogetQ hO fX12_27 dX12_tells_34 (fun q14 => ?_)
      refine sn_deref (fun a15 => ?_)
      refine sn_aload_n hO 1 rfl dX12_tells_37 ?_
      refine sn_callA3 hO (c2 := 0) (s2 := 0) (rm := (rmV_Sum 64)) [.ref (w.2.2.1 12)] cvX12_31_1 cvX12_31_2 cvX12_31_3 (fun h => ctV_Sum 64 h) ⟨Nat.le_of_ble_eq_true rfl, Nat.le_of_ble_eq_true rfl, Nat.le_of_ble_eq_true rfl, Nat.le_of_ble_eq_true rfl⟩ rfl rfl (Nat.le_of_ble_eq_true rfl) ⟨Nat.le_of_ble_eq_true rfl, Nat.le_of_ble_eq_true rfl, rfl, rfl⟩ dX12_tells_38 (sn_bLp (fun r18 => ?_)) (sn_xh [⟨0, 21, 42, 37⟩] [] ⟨22, 41, 42, 37⟩ hO rfl (by decide) (by decide) (by decide) q1174 nwc_21 (fun a16 S17 => ?_))
      · subst hQq
        exact fun h => sn_lret hO rfl dX12_tells_41 ⟨rfl, h⟩
      · rintro ⟨rfl, h⟩
        revert h
        refine sn_astore_n hO (lv' := [(2, .ref a16), (0, .ref a0), (1, .ref (w.2.2.1 12))]) (by decide) rfl dX12_tells_42 ?_
        refine sn_ldc2 hO q1207 dX12_tells_43 ?_
        subst hQq
        exact fun h => sn_lret hO rfl dX12_tells_46 ⟨rfl, h⟩
  · intro k11 hk11
    refine sn_ifnull hO 22 (by decide) dX12_tells_4 ?_ (fun a19 => ?_)
    · exact hk11
    · refine sn_aload_n hO 0 rfl dX12_tells_7 ?_
      refine sn_ogetQ hO fX12_15 dX12_tells_8 (fun q20 => ?_)
      refine sn_deref (fun a21 => ?_)
      refine sn_aload_n hO 1 rfl dX12_tells_11 ?_
      refine sn_callA3 hO (c2 := 0) (s2 := 0) (rm := (rmV_Test 64)) [.ref (w.2.2.1 12)] cvX12_19_1 cvX12_19_2 cvX12_19_3 (fun h => ctV_Test 64 h) ⟨Nat.le_of_ble_eq_true rfl, Nat.le_of_ble_eq_true rfl, Nat.le_of_ble_eq_true rfl, Nat.le_of_ble_eq_true rfl⟩ rfl rfl (Nat.le_of_ble_eq_true rfl) ⟨Nat.le_of_ble_eq_true rfl, Nat.le_of_ble_eq_true rfl, rfl, rfl⟩ dX12_tells_12 (sn_bIp (fun r24 => ?_)) (sn_xh [] [⟨22, 41, 42, 37⟩] ⟨0, 21, 42, 37⟩ hO rfl (by decide) (by decide) (by decide) q1174 nwc_21 (fun a22 S23 => ?_))
      · refine sn_if_ne hO 22 (by decide) dX12_tells_15 ?_ ?_
        · exact hk11
        · refine sn_ldc2 hO q1207 dX12_tells_18 ?_
          subst hQq
          exact fun h => sn_lret hO rfl dX12_tells_21 ⟨rfl, h⟩
      · rintro ⟨rfl, h⟩
        revert h
        refine sn_astore_n hO (lv' := [(2, .ref a22), (0, .ref a0), (1, .ref (w.2.2.1 12))]) (by decide) rfl dX12_tells_42 ?_
        refine sn_ldc2 hO q1207 dX12_tells_43 ?_
        subst hQq
        exact fun h => sn_lret hO rfl dX12_tells_46 ⟨rfl, h⟩
theorem ctX12_tells {w : sn_W} {a0 : Nat} {S : sn_S} {Q : Int64 → Prop} (h : wpX12_tells w a0 S Q) : sn_Ct LoX w yX12_tells (wsW_ yX12_tells cX12_tells 3 (some .long) [(0, 21, 42, 37), (22, 41, 42, 37)]) rmX12_tells [.ref a0, .ref (w.2.2.1 12)] S (sn_qL (fun r S1 => S1 = S ∧ Q r)) sn_noE := sn_Ct_ofW (XX_O w) (by decide) (Nat.le_of_ble_eq_true rfl) RX12 rfl (fun C hO => wkX12_tells hO a0 S Q h)
def rmX21_told : Room := { frames := 259, cells := 0, slots := 0, locals := 12874 }
/-- SnailPost$Law.told(ILSnailPost$Setting;)J -/
def wpX21_told (w : sn_W) (a0 : Nat) (p1 : Int32) (S : sn_S) (Q : Int64 → Prop) : Prop :=
  sn_lp2 (fun (rc12 : Int64 → Int32 → Prop) (i10 : Int64) (i11 : Int32) => (sn_gA S a0 19 0 (fun a13 => ((∃ fs, sn_oO S a13 9 fs) ∧ wpJ2_size w a13 S (fun (r14 : Int32) => ((r14 ≤ i11 → Q i10) ∧ (¬ r14 ≤ i11 → (sn_gA S a0 19 0 (fun a15 => ((∃ fs, sn_oO S a15 9 fs) ∧ wpJ2_get w a15 i11 S (fun (a16 : Nat) => ((∃ fs, sn_oO S a16 12 fs) ∧ (sn_gI S a16 12 0 (fun x17 => sn_jn (fun (v18 : Int64) => rc12 v18 (i11 + 1)) (fun (k19 : Int64 → Prop) => ((x17 = p1 → (sn_gA S a0 19 0 (fun a20 => ((∃ fs, sn_oO S a20 9 fs) ∧ wpJ2_get w a20 i11 S (fun (a21 : Nat) => ((∃ fs, sn_oO S a21 12 fs) ∧ ((∃ fs, sn_oO S a21 12 fs) ∧ wpX12_tells w a21 S (fun (r22 : Int64) => (((lg_cmp r22 (-4000000000)) = 0 → k19 i10) ∧ (¬ (lg_cmp r22 (-4000000000)) = 0 → k19 r22)))))))))) ∧ (¬ x17 = p1 → k19 i10))))))))))))))))) (-4000000000) 0
theorem wkX21_told {w : sn_W} {C : sn_C} (hO : sn_Ok LoX w C RX21 cX21_told 8 (some .long) [] "told") (a0 : Nat) (p1 : Int32) (S : sn_S) (Q : Int64 → Prop) : wpX21_told w a0 p1 S Q → sn_G LoX w rmX21_told (sn_qL (fun r S1 => S1 = S ∧ Q r)) sn_noE C 0 0 0 [(0, .ref a0), (1, .int p1), (2, .ref (w.2.2.1 12))] [] S := by
  unfold wpX21_told
  generalize hQq : (sn_qL (fun r S1 => S1 = S ∧ Q r)) = Qq
  refine sn_ldc2 hO q1166 dX21_told_0 ?_
  refine sn_lstore_n hO (lv' := [(3, .long (-4000000000)), (0, .ref a0), (1, .int p1), (2, .ref (w.2.2.1 12))]) (by decide) rfl dX21_told_3 ?_
  refine sn_iconst hO kc_0 dX21_told_4 ?_
  refine sn_istore hO (lv' := [(5, .int 0), (3, .long (-4000000000)), (0, .ref a0), (1, .int p1), (2, .ref (w.2.2.1 12))]) (by decide) rfl dX21_told_5 ?_
  refine sn_sub [2, 3, 4, 1, 0] rfl ?_
  refine sn_lp2_walk (Gd := fun (i10 : Int64) (i11 : Int32) => sn_G LoX w rmX21_told Qq sn_noE C 0 0 7 [(0, .ref a0), (1, .int p1), (2, .ref (w.2.2.1 12)), (3, .long i10), (5, .int i11)] [] S) ?_ _ _
  intro rc12 hrc12 i10 i11
  refine sn_iload hO 4 rfl dX21_told_7 ?_
  refine sn_aload_n hO 0 rfl dX21_told_9 ?_
  refine sn_ogetA hO fX21_9 dX21_told_10 (fun a13 => ?_)
  refine sn_callV (P := (∃ fs, sn_oO S a13 9 fs) ∧ _) hO (c2 := 0) (s2 := 0) (rm := rmJ2_size) [] cvX21_17 sn_RvP (fun h => ctJ2_size h.2) ⟨Nat.le_of_ble_eq_true rfl, Nat.le_of_ble_eq_true rfl⟩ rfl rfl (Nat.le_of_ble_eq_true rfl) ⟨Nat.le_of_ble_eq_true rfl, Nat.le_of_ble_eq_true rfl, rfl, rfl⟩ dX21_told_13 (sn_bIp (fun r14 => ?_)) sn_x0
  refine sn_icmp_ge hO 77 (by decide) dX21_told_16 ?_ ?_
  · refine sn_lload_n hO 3 rfl dX21_told_77 ?_
    subst hQq
    exact fun h => sn_lret hO rfl dX21_told_78 ⟨rfl, h⟩
  · refine sn_aload_n hO 0 rfl dX21_told_19 ?_
    refine sn_ogetA hO fX21_9 dX21_told_20 (fun a15 => ?_)
    refine sn_iload hO 4 rfl dX21_told_23 ?_
    refine sn_callV (P := (∃ fs, sn_oO S a15 9 fs) ∧ _) hO (c2 := 0) (s2 := 0) (rm := rmJ2_get) [.int i11] cvX21_23 sn_RvP (fun h => ctJ2_get h.2) ⟨Nat.le_of_ble_eq_true rfl, Nat.le_of_ble_eq_true rfl⟩ rfl rfl (Nat.le_of_ble_eq_true rfl) ⟨Nat.le_of_ble_eq_true rfl, Nat.le_of_ble_eq_true rfl, rfl, rfl⟩ dX21_told_25 (sn_bAp (fun a16 => ?_)) sn_x0
    refine sn_castXP (ci := 12) hO rfl q1169 dX21_told_28 ?_
    refine sn_ogetIN hO fX21_29 dX21_told_31 (fun x17 => ?_)
    refine sn_iload_n hO 1 rfl dX21_told_34 ?_
    refine sn_jn_walk (fun (k : Int64 → Prop) => ∀ (v18 : Int64), k v18 → sn_G LoX w rmX21_told Qq sn_noE C 0 0 71 [(0, .ref a0), (1, .int p1), (2, .ref (w.2.2.1 12)), (3, .long v18), (5, .int i11)] [] S) ?_ ?_
    · intro v18
      refine sn_iinc hO (lv' := [(5, .int (i11 + 1)), (0, .ref a0), (1, .int p1), (2, .ref (w.2.2.1 12)), (3, .long v18)]) 4 rfl ki_1 (by decide) rfl dX21_told_71 ?_
      refine sn_goto hO 7 (by decide) dX21_told_74 ?_
      refine sn_sub [1, 2, 3, 4, 0] rfl ?_
      exact hrc12 _ _
    · intro k19 hk19
      refine sn_icmp_eq hO 41 (by decide) dX21_told_35 ?_ ?_
      · refine sn_aload_n hO 0 rfl dX21_told_41 ?_
        refine sn_ogetA hO fX21_9 dX21_told_42 (fun a20 => ?_)
        refine sn_iload hO 4 rfl dX21_told_45 ?_
        refine sn_callV (P := (∃ fs, sn_oO S a20 9 fs) ∧ _) hO (c2 := 0) (s2 := 0) (rm := rmJ2_get) [.int i11] cvX21_23 sn_RvP (fun h => ctJ2_get h.2) ⟨Nat.le_of_ble_eq_true rfl, Nat.le_of_ble_eq_true rfl⟩ rfl rfl (Nat.le_of_ble_eq_true rfl) ⟨Nat.le_of_ble_eq_true rfl, Nat.le_of_ble_eq_true rfl, rfl, rfl⟩ dX21_told_47 (sn_bAp (fun a21 => ?_)) sn_x0
        refine sn_castXP (ci := 12) hO rfl q1169 dX21_told_50 ?_
        refine sn_aload_n hO 2 rfl dX21_told_53 ?_
        refine sn_callVW (P := (∃ fs, sn_oO S a21 12 fs) ∧ _) hO (c2 := 0) (s2 := 0) (rm := rmX12_tells) [.ref (w.2.2.1 12)] cvX21_33 sn_RvP (fun h => ctX12_tells h.2) ⟨Nat.le_of_ble_eq_true rfl, Nat.le_of_ble_eq_true rfl⟩ rfl rfl (Nat.le_of_ble_eq_true rfl) ⟨Nat.le_of_ble_eq_true rfl, Nat.le_of_ble_eq_true rfl, rfl, rfl⟩ dX21_told_54 (sn_bLp (fun r22 => ?_)) sn_x0
        refine sn_lstore hO (lv' := [(6, .long r22), (0, .ref a0), (1, .int p1), (2, .ref (w.2.2.1 12)), (3, .long i10), (5, .int i11)]) (by decide) rfl dX21_told_57 ?_
        refine sn_lload hO 0 rfl dX21_told_59 ?_
        refine sn_ldc2 hO q1166 dX21_told_61 ?_
        refine sn_lcmp hO dX21_told_64 ?_
        refine sn_if_eq hO 71 (by decide) dX21_told_65 ?_ ?_
        · refine sn_sub [1, 2, 3, 4, 5] rfl ?_
          exact hk19 _
        · refine sn_lload hO 0 rfl dX21_told_68 ?_
          refine sn_lstore_n hO (lv' := [(3, .long r22), (6, .long r22), (0, .ref a0), (1, .int p1), (2, .ref (w.2.2.1 12)), (5, .int i11)]) (by decide) rfl dX21_told_70 ?_
          refine sn_sub [2, 3, 4, 0, 5] rfl ?_
          exact hk19 _
      · refine sn_goto hO 71 (by decide) dX21_told_38 ?_
        exact hk19 _
theorem ctX21_told {w : sn_W} {a0 : Nat} {p1 : Int32} {S : sn_S} {Q : Int64 → Prop} (h : wpX21_told w a0 p1 S Q) : sn_Ct LoX w yX21_told (ws_ yX21_told cX21_told 8 (some .long)) rmX21_told [.ref a0, .int p1, .ref (w.2.2.1 12)] S (sn_qL (fun r S1 => S1 = S ∧ Q r)) sn_noE := sn_Ct_of (XX_O w) (by decide) (Nat.le_of_ble_eq_true rfl) RX21 rfl (fun C hO => wkX21_told hO a0 p1 S Q h)
def rmX4_asks : Room := { frames := 260, cells := 0, slots := 0, locals := 12901 }
/-- SnailPost$Walk.asks(IIIII)J -/
def wpX4_asks (w : sn_W) (kw : Nat) (p1 : Int32) (p2 : Int32) (p3 : Int32) (p4 : Int32) (p5 : Int32) (S : sn_S) (Q : Int64 → sn_S → Prop) : Prop :=
  ((¬ (S.1 2 11) = (-1) → (vp_in 0 10 ∧ sn_lt (sn_pJ S 14 (0 : Int32).toNatClampNeg (Int32.toInt64 p2)) (fun S10 => wpX0_of0 w p2 3 S10 (fun (r11 : Int32) => (vp_in 1 10 ∧ sn_lt (sn_pJ S10 14 (1 : Int32).toNatClampNeg (Int32.toInt64 r11)) (fun S12 => (vp_in p3 96 ∧ (vp_in 2 10 ∧ sn_lt (sn_pJ S12 14 (2 : Int32).toNatClampNeg (Int32.toInt64 (S12.1 3 (p3).toNatClampNeg))) (fun S13 => wpX4_lightAt w kw p3 p5 S13 (fun (r14 : Int32) => (vp_in 3 10 ∧ sn_lt (sn_pJ S13 14 (3 : Int32).toNatClampNeg (Int32.toInt64 r14)) (fun S15 => (vp_in p3 96 ∧ wpX0_ones w ((S15.1 (kw + 4) (p3).toNatClampNeg) &&& ((1 <<< (p2 &&& 31)) ^^^ (-1))) (fun (r16 : Int32) => (vp_in 4 10 ∧ sn_lt (sn_pJ S15 14 (4 : Int32).toNatClampNeg (Int32.toInt64 r16)) (fun S17 => (vp_in p3 96 ∧ (vp_in 5 10 ∧ sn_lt (sn_pJ S17 14 (5 : Int32).toNatClampNeg (Int32.toInt64 (((S17.1 (kw + 4) (p3).toNatClampNeg) >>> (p2 &&& 31)) &&& 1))) (fun S18 => (vp_in p2 6 ∧ sn_jn (fun (v19 : Int64) => (vp_in 6 10 ∧ sn_lt (sn_pJ S18 14 (6 : Int32).toNatClampNeg v19) (fun S21 => (vp_in 7 10 ∧ sn_lt (sn_pJ S21 14 (7 : Int32).toNatClampNeg (Int32.toInt64 p4)) (fun S22 => (vp_in 8 10 ∧ sn_lt (sn_pJ S22 14 (8 : Int32).toNatClampNeg (Int32.toInt64 (p3 - p3 / 12 * 12))) (fun S23 => (vp_in 9 10 ∧ sn_lt (sn_pJ S23 14 (9 : Int32).toNatClampNeg (Int32.toInt64 (p3 / 12))) (fun S24 => (sn_nn (S24.2.2.1 2 7) (fun a25 => ((∃ fs, sn_oO S24 a25 9 fs) ∧ wpJ2_get w a25 (S24.1 2 11) S24 (fun (a26 : Nat) => ((∃ fs, sn_oO S24 a26 19 fs) ∧ ((∃ fs, sn_oO S24 a26 19 fs) ∧ wpX21_told w a26 p1 S24 (fun (r27 : Int64) => Q r27 S24)))))))))))))))) (fun (k20 : Int64 → Prop) => ((¬ (S18.1 (kw + 1) (p2).toNatClampNeg) = p3 → k20 0) ∧ ((S18.1 (kw + 1) (p2).toNatClampNeg) = p3 → k20 1))))))))))))))))))))))) ∧ ((S.1 2 11) = (-1) → Q (-4000000000) S))
theorem wkX4_asks {w : sn_W} {C : sn_C} (hO : sn_Ok LoX w C RX4 cX4_asks 7 (some .long) [] "asks") (kw : Nat) (p1 : Int32) (p2 : Int32) (p3 : Int32) (p4 : Int32) (p5 : Int32) (S : sn_S) (hkw : isW kw = true) (Q : Int64 → sn_S → Prop) : wpX4_asks w kw p1 p2 p3 p4 p5 S Q → sn_G LoX w rmX4_asks (sn_qL Q) sn_noE C 0 0 0 [(0, .ref (w.2.2.1 kw)), (1, .int p1), (2, .int p2), (3, .int p3), (4, .int p4), (5, .int p5)] [] S := by
  unfold wpX4_asks
  generalize hQq : (sn_qL Q) = Qq
  refine sn_aload_n hO 0 rfl dX4_asks_0 ?_
  refine sn_getF hO (fX4_3 kw) (atW0 (k := kw) hkw) dX4_asks_1 ?_
  refine sn_getFN hO fX4_32 atX_0 dX4_asks_4 ?_
  refine sn_getIN hO fX4_65 atX_2 dX4_asks_7 ?_
  refine sn_iconst hO kc_m1 dX4_asks_10 ?_
  refine sn_icmp_ne hO 18 (by decide) dX4_asks_11 ?_ ?_
  · refine sn_aload_n hO 0 rfl dX4_asks_18 ?_
    refine sn_getF hO (fX4_3 kw) (atW0 (k := kw) hkw) dX4_asks_19 ?_
    refine sn_getFN hO fX4_70 atX_0 dX4_asks_22 ?_
    refine sn_getFN hO fX4_74 atX_12 dX4_asks_25 ?_
    refine sn_astore hO (lv' := [(6, .ref (w.2.2.1 14)), (0, .ref (w.2.2.1 kw)), (1, .int p1), (2, .int p2), (3, .int p3), (4, .int p4), (5, .int p5)]) (by decide) rfl dX4_asks_28 ?_
    refine sn_aload hO 0 rfl dX4_asks_30 ?_
    refine sn_iconst hO kc_0 dX4_asks_32 ?_
    refine sn_iload_n hO 3 rfl dX4_asks_33 ?_
    refine sn_i2l hO dX4_asks_34 ?_
    refine sn_last hO atX_14 rfl dX4_asks_35 ?_
    refine sn_nmS (fun S10 => ?_)
    refine sn_aload hO 0 rfl dX4_asks_36 ?_
    refine sn_iconst hO kc_1 dX4_asks_38 ?_
    refine sn_aload_n hO 1 rfl dX4_asks_39 ?_
    refine sn_getF hO (fX4_3 kw) (atW0 (k := kw) hkw) dX4_asks_40 ?_
    refine sn_iload_n hO 3 rfl dX4_asks_43 ?_
    refine sn_iconst hO kc_3 dX4_asks_44 ?_
    refine sn_callVN hO (c2 := 0) (s2 := 0) (rm := rmX0_of0) [.int p2, .int 3] cvX4_41 (fun _ => sn_Rv_K atX_0) (fun h => ctX0_of0 h) ⟨Nat.le_of_ble_eq_true rfl, Nat.le_of_ble_eq_true rfl⟩ rfl rfl (Nat.le_of_ble_eq_true rfl) ⟨Nat.le_of_ble_eq_true rfl, Nat.le_of_ble_eq_true rfl, rfl, rfl⟩ dX4_asks_45 (sn_bIp (fun r11 => ?_)) sn_x0
    refine sn_i2l hO dX4_asks_48 ?_
    refine sn_last hO atX_14 rfl dX4_asks_49 ?_
    refine sn_nmS (fun S12 => ?_)
    refine sn_aload hO 0 rfl dX4_asks_50 ?_
    refine sn_iconst hO kc_2 dX4_asks_52 ?_
    refine sn_aload_n hO 1 rfl dX4_asks_53 ?_
    refine sn_getF hO (fX4_3 kw) (atW0 (k := kw) hkw) dX4_asks_54 ?_
    refine sn_getFN hO fX4_32 atX_0 dX4_asks_57 ?_
    refine sn_getFN hO fX4_80 atX_2 dX4_asks_60 ?_
    refine sn_iload_n hO 4 rfl dX4_asks_63 ?_
    refine sn_iald hO atX_3 rfl dX4_asks_64 ?_
    refine sn_i2l hO dX4_asks_65 ?_
    refine sn_last hO atX_14 rfl dX4_asks_66 ?_
    refine sn_nmS (fun S13 => ?_)
    refine sn_aload hO 0 rfl dX4_asks_67 ?_
    refine sn_iconst hO kc_3 dX4_asks_69 ?_
    refine sn_aload_n hO 1 rfl dX4_asks_70 ?_
    refine sn_iload_n hO 4 rfl dX4_asks_71 ?_
    refine sn_iload hO 6 rfl dX4_asks_72 ?_
    refine sn_callV hO (c2 := 0) (s2 := 0) (rm := rmX4_lightAt) [.int p3, .int p5] cvX4_83 (fun _ => sn_Rv_K (atW0 (k := kw) hkw)) (fun h => ctX4_lightAt hkw h) ⟨Nat.le_of_ble_eq_true rfl, Nat.le_of_ble_eq_true rfl⟩ rfl rfl (Nat.le_of_ble_eq_true rfl) ⟨Nat.le_of_ble_eq_true rfl, Nat.le_of_ble_eq_true rfl, rfl, rfl⟩ dX4_asks_74 (sn_bIp (fun r14 => ?_)) sn_x0
    refine sn_i2l hO dX4_asks_77 ?_
    refine sn_last hO atX_14 rfl dX4_asks_78 ?_
    refine sn_nmS (fun S15 => ?_)
    refine sn_aload hO 0 rfl dX4_asks_79 ?_
    refine sn_iconst hO kc_4 dX4_asks_81 ?_
    refine sn_aload_n hO 1 rfl dX4_asks_82 ?_
    refine sn_getF hO (fX4_25 kw) (atW0 (k := kw) hkw) dX4_asks_83 ?_
    refine sn_iload_n hO 4 rfl dX4_asks_86 ?_
    refine sn_iald hO (atW4 (k := kw) hkw) rfl dX4_asks_87 ?_
    refine sn_iconst hO kc_1 dX4_asks_88 ?_
    refine sn_iload_n hO 3 rfl dX4_asks_89 ?_
    refine sn_ishl hO dX4_asks_90 ?_
    refine sn_iconst hO kc_m1 dX4_asks_91 ?_
    refine sn_ixor hO dX4_asks_92 ?_
    refine sn_iand hO dX4_asks_93 ?_
    refine sn_callSN hO (c2 := 0) (s2 := 0) (rm := rmX0_ones) [.int ((S15.1 (kw + 4) (p3).toNatClampNeg) &&& ((1 <<< (p2 &&& 31)) ^^^ (-1)))] csX4_86 (fun h => ctX0_ones h) ⟨Nat.le_of_ble_eq_true rfl, Nat.le_of_ble_eq_true rfl⟩ rfl rfl (Nat.le_of_ble_eq_true rfl) ⟨Nat.le_of_ble_eq_true rfl, Nat.le_of_ble_eq_true rfl, rfl, rfl⟩ dX4_asks_94 (sn_bIp (fun r16 => ?_)) sn_x0
    refine sn_i2l hO dX4_asks_97 ?_
    refine sn_last hO atX_14 rfl dX4_asks_98 ?_
    refine sn_nmS (fun S17 => ?_)
    refine sn_aload hO 0 rfl dX4_asks_99 ?_
    refine sn_iconst hO kc_5 dX4_asks_101 ?_
    refine sn_aload_n hO 1 rfl dX4_asks_102 ?_
    refine sn_getF hO (fX4_25 kw) (atW0 (k := kw) hkw) dX4_asks_103 ?_
    refine sn_iload_n hO 4 rfl dX4_asks_106 ?_
    refine sn_iald hO (atW4 (k := kw) hkw) rfl dX4_asks_107 ?_
    refine sn_iload_n hO 3 rfl dX4_asks_108 ?_
    refine sn_ishr hO dX4_asks_109 ?_
    refine sn_iconst hO kc_1 dX4_asks_110 ?_
    refine sn_iand hO dX4_asks_111 ?_
    refine sn_i2l hO dX4_asks_112 ?_
    refine sn_last hO atX_14 rfl dX4_asks_113 ?_
    refine sn_nmS (fun S18 => ?_)
    refine sn_aload hO 0 rfl dX4_asks_114 ?_
    refine sn_bipush hO kb_6 dX4_asks_116 ?_
    refine sn_aload_n hO 1 rfl dX4_asks_118 ?_
    refine sn_getF hO (fX4_15 kw) (atW0 (k := kw) hkw) dX4_asks_119 ?_
    refine sn_iload_n hO 3 rfl dX4_asks_122 ?_
    refine sn_iald hO (atW1 (k := kw) hkw) rfl dX4_asks_123 ?_
    refine sn_iload_n hO 4 rfl dX4_asks_124 ?_
    refine sn_jn_walk (fun (k : Int64 → Prop) => ∀ (v19 : Int64), k v19 → sn_G LoX w rmX4_asks Qq sn_noE C 0 0 133 [(0, .ref (w.2.2.1 kw)), (1, .int p1), (3, .int p3), (4, .int p4), (6, .ref (w.2.2.1 14))] [.long v19, .int 6, .ref (w.2.2.1 14)] S18) ?_ ?_
    · intro v19
      refine sn_last hO atX_14 rfl dX4_asks_133 ?_
      refine sn_nmS (fun S21 => ?_)
      refine sn_aload hO 4 rfl dX4_asks_134 ?_
      refine sn_bipush hO kb_7 dX4_asks_136 ?_
      refine sn_iload hO 3 rfl dX4_asks_138 ?_
      refine sn_i2l hO dX4_asks_140 ?_
      refine sn_last hO atX_14 rfl dX4_asks_141 ?_
      refine sn_nmS (fun S22 => ?_)
      refine sn_aload hO 4 rfl dX4_asks_142 ?_
      refine sn_bipush hO kb_8 dX4_asks_144 ?_
      refine sn_iload_n hO 2 rfl dX4_asks_146 ?_
      refine sn_bipush hO kb_12 dX4_asks_147 ?_
      refine sn_irem hO (by decide) dX4_asks_149 ?_
      refine sn_i2l hO dX4_asks_150 ?_
      refine sn_last hO atX_14 rfl dX4_asks_151 ?_
      refine sn_nmS (fun S23 => ?_)
      refine sn_aload hO 4 rfl dX4_asks_152 ?_
      refine sn_bipush hO kb_9 dX4_asks_154 ?_
      refine sn_iload_n hO 2 rfl dX4_asks_156 ?_
      refine sn_bipush hO kb_12 dX4_asks_157 ?_
      refine sn_idiv hO (by decide) dX4_asks_159 ?_
      refine sn_i2l hO dX4_asks_160 ?_
      refine sn_last hO atX_14 rfl dX4_asks_161 ?_
      refine sn_nmS (fun S24 => ?_)
      refine sn_aload_n hO 0 rfl dX4_asks_162 ?_
      refine sn_getF hO (fX4_3 kw) (atW0 (k := kw) hkw) dX4_asks_163 ?_
      refine sn_getFN hO fX4_32 atX_0 dX4_asks_166 ?_
      refine sn_getQN hO fX4_90 atX_2 dX4_asks_169 ?_
      refine sn_deref (fun a25 => ?_)
      refine sn_aload_n hO 0 rfl dX4_asks_172 ?_
      refine sn_getF hO (fX4_3 kw) (atW0 (k := kw) hkw) dX4_asks_173 ?_
      refine sn_getFN hO fX4_32 atX_0 dX4_asks_176 ?_
      refine sn_getIN hO fX4_65 atX_2 dX4_asks_179 ?_
      refine sn_callV (P := (∃ fs, sn_oO S24 a25 9 fs) ∧ _) hO (c2 := 0) (s2 := 0) (rm := rmJ2_get) [.int (S24.1 2 11)] cvX4_94 sn_RvP (fun h => ctJ2_get h.2) ⟨Nat.le_of_ble_eq_true rfl, Nat.le_of_ble_eq_true rfl⟩ rfl rfl (Nat.le_of_ble_eq_true rfl) ⟨Nat.le_of_ble_eq_true rfl, Nat.le_of_ble_eq_true rfl, rfl, rfl⟩ dX4_asks_182 (sn_bAp (fun a26 => ?_)) sn_x0
      refine sn_castXP (ci := 19) hO rfl q1161 dX4_asks_185 ?_
      refine sn_iload_n hO 1 rfl dX4_asks_188 ?_
      refine sn_aload_n hO 0 rfl dX4_asks_189 ?_
      refine sn_getF hO (fX4_3 kw) (atW0 (k := kw) hkw) dX4_asks_190 ?_
      refine sn_getFN hO fX4_70 atX_0 dX4_asks_193 ?_
      refine sn_callV (P := (∃ fs, sn_oO S24 a26 19 fs) ∧ _) hO (c2 := 0) (s2 := 0) (rm := rmX21_told) [.int p1, .ref (w.2.2.1 12)] cvX4_102 sn_RvP (fun h => ctX21_told h.2) ⟨Nat.le_of_ble_eq_true rfl, Nat.le_of_ble_eq_true rfl⟩ rfl rfl (Nat.le_of_ble_eq_true rfl) ⟨Nat.le_of_ble_eq_true rfl, Nat.le_of_ble_eq_true rfl, rfl, rfl⟩ dX4_asks_196 (sn_bLp (fun r27 => ?_)) sn_x0
      subst hQq
      exact sn_lret hO rfl dX4_asks_199
    · intro k20 hk20
      refine sn_icmp_ne hO 132 (by decide) dX4_asks_125 ?_ ?_
      · refine sn_lconst hO (v := 0) rfl dX4_asks_132 ?_
        refine sn_sub [1, 2, 4, 5, 0] rfl ?_
        exact hk20 _
      · refine sn_lconst hO (v := 1) rfl dX4_asks_128 ?_
        refine sn_goto hO 133 (by decide) dX4_asks_129 ?_
        refine sn_sub [1, 2, 4, 5, 0] rfl ?_
        exact hk20 _
  · refine sn_ldc2 hO q1128 dX4_asks_14 ?_
    subst hQq
    exact sn_lret hO rfl dX4_asks_17
theorem ctX4_asks {w : sn_W} {kw : Nat} {p1 : Int32} {p2 : Int32} {p3 : Int32} {p4 : Int32} {p5 : Int32} (hkw : isW kw = true) {S : sn_S} {Q : Int64 → sn_S → Prop} (h : wpX4_asks w kw p1 p2 p3 p4 p5 S Q) : sn_Ct LoX w yX4_asks (ws_ yX4_asks cX4_asks 7 (some .long)) rmX4_asks [.ref (w.2.2.1 kw), .int p1, .int p2, .int p3, .int p4, .int p5] S (sn_qL Q) sn_noE := sn_Ct_of (XX_O w) (by decide) (Nat.le_of_ble_eq_true rfl) RX4 rfl (fun C hO => wkX4_asks hO kw p1 p2 p3 p4 p5 S hkw Q h)
def rmX4_lure : Room := { frames := 261, cells := 0, slots := 0, locals := 12927 }
/-- SnailPost$Walk.lure(IIII)J -/
def wpX4_lure (w : sn_W) (kw : Nat) (p1 : Int32) (p2 : Int32) (p3 : Int32) (p4 : Int32) (S : sn_S) (Q : Int64 → sn_S → Prop) : Prop :=
  wpX4_asks w kw 0 p1 p2 p3 p4 S (fun (r10 : Int64) (S11 : sn_S) => ((¬ (lg_cmp r10 (-4000000000)) = 0 → Q r10 S11) ∧ ((lg_cmp r10 (-4000000000)) = 0 → (vp_in p2 96 ∧ wpX4_lightAt w kw p2 p4 S11 (fun (r12 : Int32) => Q (Int32.toInt64 ((S11.1 3 (p2).toNatClampNeg) + r12)) S11)))))
theorem wkX4_lure {w : sn_W} {C : sn_C} (hO : sn_Ok LoX w C RX4 cX4_lure 7 (some .long) [] "lure") (kw : Nat) (p1 : Int32) (p2 : Int32) (p3 : Int32) (p4 : Int32) (S : sn_S) (hkw : isW kw = true) (Q : Int64 → sn_S → Prop) : wpX4_lure w kw p1 p2 p3 p4 S Q → sn_G LoX w rmX4_lure (sn_qL Q) sn_noE C 0 0 0 [(0, .ref (w.2.2.1 kw)), (1, .int p1), (2, .int p2), (3, .int p3), (4, .int p4)] [] S := by
  unfold wpX4_lure
  generalize hQq : (sn_qL Q) = Qq
  refine sn_aload_n hO 0 rfl dX4_lure_0 ?_
  refine sn_iconst hO kc_0 dX4_lure_1 ?_
  refine sn_iload_n hO 1 rfl dX4_lure_2 ?_
  refine sn_iload_n hO 2 rfl dX4_lure_3 ?_
  refine sn_iload_n hO 3 rfl dX4_lure_4 ?_
  refine sn_iload hO 4 rfl dX4_lure_5 ?_
  refine sn_callV hO (c2 := 0) (s2 := 0) (rm := rmX4_asks) [.int 0, .int p1, .int p2, .int p3, .int p4] cvX4_106 (fun _ => sn_Rv_K (atW0 (k := kw) hkw)) (fun h => ctX4_asks hkw h) ⟨Nat.le_of_ble_eq_true rfl, Nat.le_of_ble_eq_true rfl⟩ rfl rfl (Nat.le_of_ble_eq_true rfl) ⟨Nat.le_of_ble_eq_true rfl, Nat.le_of_ble_eq_true rfl, rfl, rfl⟩ dX4_lure_7 (sn_bL (fun r10 S11 => ?_)) sn_x0
  refine sn_lstore hO (lv' := [(5, .long r10), (0, .ref (w.2.2.1 kw)), (1, .int p1), (2, .int p2), (3, .int p3), (4, .int p4)]) (by decide) rfl dX4_lure_10 ?_
  refine sn_lload hO 0 rfl dX4_lure_12 ?_
  refine sn_ldc2 hO q1128 dX4_lure_14 ?_
  refine sn_lcmp hO dX4_lure_17 ?_
  refine sn_if_ne hO 45 (by decide) dX4_lure_18 ?_ ?_
  · refine sn_lload hO 0 rfl dX4_lure_45 ?_
    subst hQq
    exact sn_lret hO rfl dX4_lure_47
  · refine sn_aload_n hO 1 rfl dX4_lure_21 ?_
    refine sn_getF hO (fX4_3 kw) (atW0 (k := kw) hkw) dX4_lure_22 ?_
    refine sn_getFN hO fX4_32 atX_0 dX4_lure_25 ?_
    refine sn_getFN hO fX4_80 atX_2 dX4_lure_28 ?_
    refine sn_iload_n hO 3 rfl dX4_lure_31 ?_
    refine sn_iald hO atX_3 rfl dX4_lure_32 ?_
    refine sn_aload_n hO 1 rfl dX4_lure_33 ?_
    refine sn_iload_n hO 3 rfl dX4_lure_34 ?_
    refine sn_iload hO 5 rfl dX4_lure_35 ?_
    refine sn_callV hO (c2 := 0) (s2 := 0) (rm := rmX4_lightAt) [.int p2, .int p4] cvX4_83 (fun _ => sn_Rv_K (atW0 (k := kw) hkw)) (fun h => ctX4_lightAt hkw h) ⟨Nat.le_of_ble_eq_true rfl, Nat.le_of_ble_eq_true rfl⟩ rfl rfl (Nat.le_of_ble_eq_true rfl) ⟨Nat.le_of_ble_eq_true rfl, Nat.le_of_ble_eq_true rfl, rfl, rfl⟩ dX4_lure_37 (sn_bIp (fun r12 => ?_)) sn_x0
    refine sn_iadd hO dX4_lure_40 ?_
    refine sn_i2l hO dX4_lure_41 ?_
    refine sn_goto hO 47 (by decide) dX4_lure_42 ?_
    subst hQq
    exact sn_lret hO rfl dX4_lure_47
theorem ctX4_lure {w : sn_W} {kw : Nat} {p1 : Int32} {p2 : Int32} {p3 : Int32} {p4 : Int32} (hkw : isW kw = true) {S : sn_S} {Q : Int64 → sn_S → Prop} (h : wpX4_lure w kw p1 p2 p3 p4 S Q) : sn_Ct LoX w yX4_lure (ws_ yX4_lure cX4_lure 7 (some .long)) rmX4_lure [.ref (w.2.2.1 kw), .int p1, .int p2, .int p3, .int p4] S (sn_qL Q) sn_noE := sn_Ct_of (XX_O w) (by decide) (Nat.le_of_ble_eq_true rfl) RX4 rfl (fun C hO => wkX4_lure hO kw p1 p2 p3 p4 S hkw Q h)
def rmX4_best : Room := { frames := 262, cells := 0, slots := 0, locals := 12953 }
/-- SnailPost$Walk.best(III)I -/
def wpX4_best (w : sn_W) (kw : Nat) (p1 : Int32) (p2 : Int32) (p3 : Int32) (S : sn_S) (Q : Int32 → sn_S → Prop) : Prop :=
  (vp_in p1 6 ∧ sn_lt (S.1 (kw + 1) (p1).toNatClampNeg) (fun x10 => (vp_in 0 5 ∧ sn_lt (sn_pI S 15 (0 : Int32).toNatClampNeg x10) (fun S11 => sn_jn (fun (v12 : Int32) (S13 : sn_S) => sn_jn (fun (v15 : Int32) (S16 : sn_S) => sn_jn (fun (v18 : Int32) (S19 : sn_S) => sn_jn (fun (v21 : Int32) (S22 : sn_S) => wpX4_lure w kw p1 x10 p2 p3 S22 (fun (r24 : Int64) (S25 : sn_S) => sn_lp4 (fun (rc30 : Int32 → Int64 → Int32 → sn_S → Prop) (i26 : Int32) (i27 : Int64) (i28 : Int32) (S29 : sn_S) => ((v21 ≤ i28 → Q i26 S29) ∧ (¬ v21 ≤ i28 → (vp_in i28 5 ∧ (vp_in (S29.1 15 (i28).toNatClampNeg) 96 ∧ sn_jn (fun (v31 : Int32) (v32 : Int64) (S33 : sn_S) => rc30 v31 v32 (i28 + 1) S33) (fun (k34 : Int32 → Int64 → sn_S → Prop) => (((S29.1 9 ((S29.1 15 (i28).toNatClampNeg)).toNatClampNeg) = 0 → (vp_in i28 5 ∧ wpX4_lure w kw p1 (S29.1 15 (i28).toNatClampNeg) p2 p3 S29 (fun (r35 : Int64) (S36 : sn_S) => ((0 < (lg_cmp r35 i27) → (vp_in i28 5 ∧ sn_lt (S36.1 15 (i28).toNatClampNeg) (fun x37 => k34 x37 r35 S36))) ∧ (¬ 0 < (lg_cmp r35 i27) → k34 i26 i27 S36))))) ∧ (¬ (S29.1 9 ((S29.1 15 (i28).toNatClampNeg)).toNatClampNeg) = 0 → k34 i26 i27 S29)))))))) x10 r24 1 S25)) (fun (k23 : Int32 → sn_S → Prop) => (((x10 - x10 / 12 * 12) ≤ 0 → k23 v18 S19) ∧ (¬ (x10 - x10 / 12 * 12) ≤ 0 → (vp_in v18 5 ∧ sn_lt (sn_pI S19 15 (v18).toNatClampNeg (x10 - 1)) (fun S38 => k23 (v18 + 1) S38)))))) (fun (k20 : Int32 → sn_S → Prop) => ((84 ≤ x10 → k20 v15 S16) ∧ (¬ 84 ≤ x10 → (vp_in v15 5 ∧ sn_lt (sn_pI S16 15 (v15).toNatClampNeg (x10 + 12)) (fun S39 => k20 (v15 + 1) S39)))))) (fun (k17 : Int32 → sn_S → Prop) => ((11 ≤ (x10 - x10 / 12 * 12) → k17 v12 S13) ∧ (¬ 11 ≤ (x10 - x10 / 12 * 12) → (vp_in v12 5 ∧ sn_lt (sn_pI S13 15 (v12).toNatClampNeg (x10 + 1)) (fun S40 => k17 (v12 + 1) S40)))))) (fun (k14 : Int32 → sn_S → Prop) => ((x10 < 12 → k14 (0 + 1) S11) ∧ (¬ x10 < 12 → (vp_in (0 + 1) 5 ∧ sn_lt (sn_pI S11 15 ((0 + 1) : Int32).toNatClampNeg (x10 - 12)) (fun S41 => k14 ((0 + 1) + 1) S41)))))))))
theorem wkX4_best {w : sn_W} {C : sn_C} (hO : sn_Ok LoX w C RX4 cX4_best 12 (some .int) [] "best") (kw : Nat) (p1 : Int32) (p2 : Int32) (p3 : Int32) (S : sn_S) (hkw : isW kw = true) (Q : Int32 → sn_S → Prop) : wpX4_best w kw p1 p2 p3 S Q → sn_G LoX w rmX4_best (sn_qI Q) sn_noE C 0 0 0 [(0, .ref (w.2.2.1 kw)), (1, .int p1), (2, .int p2), (3, .int p3)] [] S := by
  unfold wpX4_best
  generalize hQq : (sn_qI Q) = Qq
  refine sn_aload_n hO 0 rfl dX4_best_0 ?_
  refine sn_getF hO (fX4_15 kw) (atW0 (k := kw) hkw) dX4_best_1 ?_
  refine sn_iload_n hO 1 rfl dX4_best_4 ?_
  refine sn_iald hO (atW1 (k := kw) hkw) rfl dX4_best_5 ?_
  refine sn_nmI (fun x10 => ?_)
  refine sn_istore hO (lv' := [(4, .int x10), (0, .ref (w.2.2.1 kw)), (1, .int p1), (2, .int p2), (3, .int p3)]) (by decide) rfl dX4_best_6 ?_
  refine sn_iconst hO kc_0 dX4_best_8 ?_
  refine sn_istore hO (lv' := [(5, .int 0), (4, .int x10), (0, .ref (w.2.2.1 kw)), (1, .int p1), (2, .int p2), (3, .int p3)]) (by decide) rfl dX4_best_9 ?_
  refine sn_aload_n hO 2 rfl dX4_best_11 ?_
  refine sn_getF hO (fX4_3 kw) (atW0 (k := kw) hkw) dX4_best_12 ?_
  refine sn_getFN hO fX4_126 atX_0 dX4_best_15 ?_
  refine sn_iload hO 0 rfl dX4_best_18 ?_
  refine sn_iinc hO (lv' := [(5, .int (0 + 1)), (4, .int x10), (0, .ref (w.2.2.1 kw)), (1, .int p1), (2, .int p2), (3, .int p3)]) 0 rfl ki_1 (by decide) rfl dX4_best_20 ?_
  refine sn_iload hO 1 rfl dX4_best_23 ?_
  refine sn_iast hO atX_15 rfl dX4_best_25 ?_
  refine sn_nmS (fun S11 => ?_)
  refine sn_iload hO 1 rfl dX4_best_26 ?_
  refine sn_bipush hO kb_12 dX4_best_28 ?_
  refine sn_jn_walk (fun (k : Int32 → sn_S → Prop) => ∀ (v12 : Int32) (S13 : sn_S), k v12 S13 → sn_G LoX w rmX4_best Qq sn_noE C 0 0 51 [(0, .ref (w.2.2.1 kw)), (1, .int p1), (2, .int p2), (3, .int p3), (4, .int x10), (5, .int v12)] [] S13) ?_ ?_
  · intro v12 S13
    refine sn_iload hO 4 rfl dX4_best_51 ?_
    refine sn_bipush hO kb_12 dX4_best_53 ?_
    refine sn_irem hO (by decide) dX4_best_55 ?_
    refine sn_bipush hO kb_11 dX4_best_56 ?_
    refine sn_jn_walk (fun (k : Int32 → sn_S → Prop) => ∀ (v15 : Int32) (S16 : sn_S), k v15 S16 → sn_G LoX w rmX4_best Qq sn_noE C 0 0 78 [(0, .ref (w.2.2.1 kw)), (1, .int p1), (2, .int p2), (3, .int p3), (4, .int x10), (5, .int v15)] [] S16) ?_ ?_
    · intro v15 S16
      refine sn_iload hO 4 rfl dX4_best_78 ?_
      refine sn_bipush hO kb_84 dX4_best_80 ?_
      refine sn_jn_walk (fun (k : Int32 → sn_S → Prop) => ∀ (v18 : Int32) (S19 : sn_S), k v18 S19 → sn_G LoX w rmX4_best Qq sn_noE C 0 0 103 [(0, .ref (w.2.2.1 kw)), (1, .int p1), (2, .int p2), (3, .int p3), (4, .int x10), (5, .int v18)] [] S19) ?_ ?_
      · intro v18 S19
        refine sn_iload hO 4 rfl dX4_best_103 ?_
        refine sn_bipush hO kb_12 dX4_best_105 ?_
        refine sn_irem hO (by decide) dX4_best_107 ?_
        refine sn_jn_walk (fun (k : Int32 → sn_S → Prop) => ∀ (v21 : Int32) (S22 : sn_S), k v21 S22 → sn_G LoX w rmX4_best Qq sn_noE C 0 0 128 [(0, .ref (w.2.2.1 kw)), (1, .int p1), (2, .int p2), (3, .int p3), (4, .int x10), (5, .int v21)] [] S22) ?_ ?_
        · intro v21 S22
          refine sn_iload hO 4 rfl dX4_best_128 ?_
          refine sn_istore hO (lv' := [(6, .int x10), (0, .ref (w.2.2.1 kw)), (1, .int p1), (2, .int p2), (3, .int p3), (4, .int x10), (5, .int v21)]) (by decide) rfl dX4_best_130 ?_
          refine sn_aload_n hO 1 rfl dX4_best_132 ?_
          refine sn_iload_n hO 2 rfl dX4_best_133 ?_
          refine sn_iload hO 5 rfl dX4_best_134 ?_
          refine sn_iload_n hO 3 rfl dX4_best_136 ?_
          refine sn_iload_n hO 4 rfl dX4_best_137 ?_
          refine sn_callV hO (c2 := 0) (s2 := 0) (rm := rmX4_lure) [.int p1, .int x10, .int p2, .int p3] cvX4_129 (fun _ => sn_Rv_K (atW0 (k := kw) hkw)) (fun h => ctX4_lure hkw h) ⟨Nat.le_of_ble_eq_true rfl, Nat.le_of_ble_eq_true rfl⟩ rfl rfl (Nat.le_of_ble_eq_true rfl) ⟨Nat.le_of_ble_eq_true rfl, Nat.le_of_ble_eq_true rfl, rfl, rfl⟩ dX4_best_138 (sn_bL (fun r24 S25 => ?_)) sn_x0
          refine sn_lstore hO (lv' := [(7, .long r24), (6, .int x10), (0, .ref (w.2.2.1 kw)), (1, .int p1), (2, .int p2), (3, .int p3), (4, .int x10), (5, .int v21)]) (by decide) rfl dX4_best_141 ?_
          refine sn_iconst hO kc_1 dX4_best_143 ?_
          refine sn_istore hO (lv' := [(9, .int 1), (7, .long r24), (6, .int x10), (0, .ref (w.2.2.1 kw)), (1, .int p1), (2, .int p2), (3, .int p3), (4, .int x10), (5, .int v21)]) (by decide) rfl dX4_best_144 ?_
          refine sn_sub [3, 4, 5, 6, 8, 2, 1, 0] rfl ?_
          refine sn_lp4_walk (Gd := fun (i26 : Int32) (i27 : Int64) (i28 : Int32) (S29 : sn_S) => sn_G LoX w rmX4_best Qq sn_noE C 0 0 146 [(0, .ref (w.2.2.1 kw)), (1, .int p1), (2, .int p2), (3, .int p3), (5, .int v21), (6, .int i26), (7, .long i27), (9, .int i28)] [] S29) ?_ _ _ _ _
          intro rc30 hrc30 i26 i27 i28 S29
          refine sn_iload hO 7 rfl dX4_best_146 ?_
          refine sn_iload hO 4 rfl dX4_best_148 ?_
          refine sn_icmp_ge hO 232 (by decide) dX4_best_150 ?_ ?_
          · refine sn_iload hO 5 rfl dX4_best_232 ?_
            subst hQq
            exact sn_iret hO rfl dX4_best_234
          · refine sn_aload_n hO 0 rfl dX4_best_153 ?_
            refine sn_getF hO (fX4_3 kw) (atW0 (k := kw) hkw) dX4_best_154 ?_
            refine sn_getFN hO fX4_32 atX_0 dX4_best_157 ?_
            refine sn_getFN hO fX4_133 atX_2 dX4_best_160 ?_
            refine sn_aload_n hO 0 rfl dX4_best_163 ?_
            refine sn_getF hO (fX4_3 kw) (atW0 (k := kw) hkw) dX4_best_164 ?_
            refine sn_getFN hO fX4_126 atX_0 dX4_best_167 ?_
            refine sn_iload hO 7 rfl dX4_best_170 ?_
            refine sn_iald hO atX_15 rfl dX4_best_172 ?_
            refine sn_zald hO atX_9 rfl dX4_best_173 ?_
            refine sn_jn_walk (fun (k : Int32 → Int64 → sn_S → Prop) => ∀ (v31 : Int32) (v32 : Int64) (S33 : sn_S), k v31 v32 S33 → sn_G LoX w rmX4_best Qq sn_noE C 0 0 226 [(0, .ref (w.2.2.1 kw)), (1, .int p1), (2, .int p2), (3, .int p3), (5, .int v21), (6, .int v31), (7, .long v32), (9, .int i28)] [] S33) ?_ ?_
            · intro v31 v32 S33
              refine sn_iinc hO (lv' := [(9, .int (i28 + 1)), (0, .ref (w.2.2.1 kw)), (1, .int p1), (2, .int p2), (3, .int p3), (5, .int v21), (6, .int v31), (7, .long v32)]) 7 rfl ki_1 (by decide) rfl dX4_best_226 ?_
              refine sn_goto hO 146 (by decide) dX4_best_229 ?_
              refine sn_sub [1, 2, 3, 4, 5, 6, 7, 0] rfl ?_
              exact hrc30 _ _ _ _
            · intro k34 hk34
              refine sn_if_eq hO 180 (by decide) dX4_best_174 ?_ ?_
              · refine sn_aload_n hO 0 rfl dX4_best_180 ?_
                refine sn_iload_n hO 1 rfl dX4_best_181 ?_
                refine sn_aload_n hO 0 rfl dX4_best_182 ?_
                refine sn_getF hO (fX4_3 kw) (atW0 (k := kw) hkw) dX4_best_183 ?_
                refine sn_getFN hO fX4_126 atX_0 dX4_best_186 ?_
                refine sn_iload hO 7 rfl dX4_best_189 ?_
                refine sn_iald hO atX_15 rfl dX4_best_191 ?_
                refine sn_iload_n hO 2 rfl dX4_best_192 ?_
                refine sn_iload_n hO 3 rfl dX4_best_193 ?_
                refine sn_callV hO (c2 := 0) (s2 := 0) (rm := rmX4_lure) [.int p1, .int (S29.1 15 (i28).toNatClampNeg), .int p2, .int p3] cvX4_129 (fun _ => sn_Rv_K (atW0 (k := kw) hkw)) (fun h => ctX4_lure hkw h) ⟨Nat.le_of_ble_eq_true rfl, Nat.le_of_ble_eq_true rfl⟩ rfl rfl (Nat.le_of_ble_eq_true rfl) ⟨Nat.le_of_ble_eq_true rfl, Nat.le_of_ble_eq_true rfl, rfl, rfl⟩ dX4_best_194 (sn_bL (fun r35 S36 => ?_)) sn_x0
                refine sn_lstore hO (lv' := [(10, .long r35), (0, .ref (w.2.2.1 kw)), (1, .int p1), (2, .int p2), (3, .int p3), (5, .int v21), (6, .int i26), (7, .long i27), (9, .int i28)]) (by decide) rfl dX4_best_197 ?_
                refine sn_lload hO 0 rfl dX4_best_199 ?_
                refine sn_lload hO 7 rfl dX4_best_201 ?_
                refine sn_lcmp hO dX4_best_203 ?_
                refine sn_if_gt hO 210 (by decide) dX4_best_204 ?_ ?_
                · refine sn_lload hO 0 rfl dX4_best_210 ?_
                  refine sn_lstore hO (lv' := [(7, .long r35), (10, .long r35), (0, .ref (w.2.2.1 kw)), (1, .int p1), (2, .int p2), (3, .int p3), (5, .int v21), (6, .int i26), (9, .int i28)]) (by decide) rfl dX4_best_212 ?_
                  refine sn_aload_n hO 2 rfl dX4_best_214 ?_
                  refine sn_getF hO (fX4_3 kw) (atW0 (k := kw) hkw) dX4_best_215 ?_
                  refine sn_getFN hO fX4_126 atX_0 dX4_best_218 ?_
                  refine sn_iload hO 8 rfl dX4_best_221 ?_
                  refine sn_iald hO atX_15 rfl dX4_best_223 ?_
                  refine sn_nmI (fun x37 => ?_)
                  refine sn_istore hO (lv' := [(6, .int x37), (7, .long r35), (10, .long r35), (0, .ref (w.2.2.1 kw)), (1, .int p1), (2, .int p2), (3, .int p3), (5, .int v21), (9, .int i28)]) (by decide) rfl dX4_best_224 ?_
                  refine sn_sub [3, 4, 5, 6, 7, 0, 1, 8] rfl ?_
                  exact hk34 _ _ _
                · refine sn_goto hO 226 (by decide) dX4_best_207 ?_
                  refine sn_sub [1, 2, 3, 4, 5, 6, 7, 8] rfl ?_
                  exact hk34 _ _ _
              · refine sn_goto hO 226 (by decide) dX4_best_177 ?_
                exact hk34 _ _ _
        · intro k23 hk23
          refine sn_if_le hO 128 (by decide) dX4_best_108 ?_ ?_
          · exact hk23 _ _
          · refine sn_aload_n hO 0 rfl dX4_best_111 ?_
            refine sn_getF hO (fX4_3 kw) (atW0 (k := kw) hkw) dX4_best_112 ?_
            refine sn_getFN hO fX4_126 atX_0 dX4_best_115 ?_
            refine sn_iload hO 5 rfl dX4_best_118 ?_
            refine sn_iinc hO (lv' := [(5, .int (v18 + 1)), (0, .ref (w.2.2.1 kw)), (1, .int p1), (2, .int p2), (3, .int p3), (4, .int x10)]) 5 rfl ki_1 (by decide) rfl dX4_best_120 ?_
            refine sn_iload hO 5 rfl dX4_best_123 ?_
            refine sn_iconst hO kc_1 dX4_best_125 ?_
            refine sn_isub hO dX4_best_126 ?_
            refine sn_iast hO atX_15 rfl dX4_best_127 ?_
            refine sn_nmS (fun S38 => ?_)
            refine sn_sub [1, 2, 3, 4, 5, 0] rfl ?_
            exact hk23 _ _
      · intro k20 hk20
        refine sn_icmp_ge hO 103 (by decide) dX4_best_82 ?_ ?_
        · exact hk20 _ _
        · refine sn_aload_n hO 0 rfl dX4_best_85 ?_
          refine sn_getF hO (fX4_3 kw) (atW0 (k := kw) hkw) dX4_best_86 ?_
          refine sn_getFN hO fX4_126 atX_0 dX4_best_89 ?_
          refine sn_iload hO 5 rfl dX4_best_92 ?_
          refine sn_iinc hO (lv' := [(5, .int (v15 + 1)), (0, .ref (w.2.2.1 kw)), (1, .int p1), (2, .int p2), (3, .int p3), (4, .int x10)]) 5 rfl ki_1 (by decide) rfl dX4_best_94 ?_
          refine sn_iload hO 5 rfl dX4_best_97 ?_
          refine sn_bipush hO kb_12 dX4_best_99 ?_
          refine sn_iadd hO dX4_best_101 ?_
          refine sn_iast hO atX_15 rfl dX4_best_102 ?_
          refine sn_nmS (fun S39 => ?_)
          refine sn_sub [1, 2, 3, 4, 5, 0] rfl ?_
          exact hk20 _ _
    · intro k17 hk17
      refine sn_icmp_ge hO 78 (by decide) dX4_best_58 ?_ ?_
      · exact hk17 _ _
      · refine sn_aload_n hO 0 rfl dX4_best_61 ?_
        refine sn_getF hO (fX4_3 kw) (atW0 (k := kw) hkw) dX4_best_62 ?_
        refine sn_getFN hO fX4_126 atX_0 dX4_best_65 ?_
        refine sn_iload hO 5 rfl dX4_best_68 ?_
        refine sn_iinc hO (lv' := [(5, .int (v12 + 1)), (0, .ref (w.2.2.1 kw)), (1, .int p1), (2, .int p2), (3, .int p3), (4, .int x10)]) 5 rfl ki_1 (by decide) rfl dX4_best_70 ?_
        refine sn_iload hO 5 rfl dX4_best_73 ?_
        refine sn_iconst hO kc_1 dX4_best_75 ?_
        refine sn_iadd hO dX4_best_76 ?_
        refine sn_iast hO atX_15 rfl dX4_best_77 ?_
        refine sn_nmS (fun S40 => ?_)
        refine sn_sub [1, 2, 3, 4, 5, 0] rfl ?_
        exact hk17 _ _
  · intro k14 hk14
    refine sn_icmp_lt hO 51 (by decide) dX4_best_30 ?_ ?_
    · refine sn_sub [2, 3, 4, 5, 1, 0] rfl ?_
      exact hk14 _ _
    · refine sn_aload_n hO 2 rfl dX4_best_33 ?_
      refine sn_getF hO (fX4_3 kw) (atW0 (k := kw) hkw) dX4_best_34 ?_
      refine sn_getFN hO fX4_126 atX_0 dX4_best_37 ?_
      refine sn_iload hO 0 rfl dX4_best_40 ?_
      refine sn_iinc hO (lv' := [(5, .int ((0 + 1) + 1)), (4, .int x10), (0, .ref (w.2.2.1 kw)), (1, .int p1), (2, .int p2), (3, .int p3)]) 0 rfl ki_1 (by decide) rfl dX4_best_42 ?_
      refine sn_iload hO 1 rfl dX4_best_45 ?_
      refine sn_bipush hO kb_12 dX4_best_47 ?_
      refine sn_isub hO dX4_best_49 ?_
      refine sn_iast hO atX_15 rfl dX4_best_50 ?_
      refine sn_nmS (fun S41 => ?_)
      refine sn_sub [2, 3, 4, 5, 1, 0] rfl ?_
      exact hk14 _ _
theorem ctX4_best {w : sn_W} {kw : Nat} {p1 : Int32} {p2 : Int32} {p3 : Int32} (hkw : isW kw = true) {S : sn_S} {Q : Int32 → sn_S → Prop} (h : wpX4_best w kw p1 p2 p3 S Q) : sn_Ct LoX w yX4_best (ws_ yX4_best cX4_best 12 (some .int)) rmX4_best [.ref (w.2.2.1 kw), .int p1, .int p2, .int p3] S (sn_qI Q) sn_noE := sn_Ct_of (XX_O w) (by decide) (Nat.le_of_ble_eq_true rfl) RX4 rfl (fun C hO => wkX4_best hO kw p1 p2 p3 S hkw Q h)
def rmX4_minute : Room := { frames := 263, cells := 0, slots := 0, locals := 12984 }
/-- SnailPost$Walk.minute(II)V -/
def wpX4_minute (w : sn_W) (kw : Nat) (p1 : Int32) (p2 : Int32) (S : sn_S) (Q : sn_S → Prop) : Prop :=
  sn_lt (p1 / 12) (fun x10 => sn_lp2 (fun (rc13 : Int32 → sn_S → Prop) (i11 : Int32) (S12 : sn_S) => (((S12.1 2 8) ≤ i11 → Q S12) ∧ (¬ (S12.1 2 8) ≤ i11 → (vp_in i11 6 ∧ sn_jn (fun (S14 : sn_S) => rc13 (i11 + 1) S14) (fun (k15 : sn_S → Prop) => ((¬ (S12.1 (kw + 2) (i11).toNatClampNeg) = (-1) → k15 S12) ∧ ((S12.1 (kw + 2) (i11).toNatClampNeg) = (-1) → wpX0_isOf w (S12.1 kw 4) i11 (fun (r16 : Int32) => ((¬ r16 = 0 → k15 S12) ∧ (r16 = 0 → wpX0_of0 w i11 2 S12 (fun (r17 : Int32) => (¬ r17 = 0 ∧ ((((p1 + 1) - (p1 + 1) / r17 * r17) = 0 → (vp_in i11 6 ∧ wpX4_asks w kw 2 i11 (S12.1 (kw + 1) (i11).toNatClampNeg) x10 p2 S12 (fun (r18 : Int64) (S19 : sn_S) => sn_jn (fun (v20 : Int32) (S21 : sn_S) => (vp_in i11 6 ∧ (vp_in i11 6 ∧ sn_jn (fun (v23 : Int32) => (vp_in i11 6 ∧ sn_lt (sn_pI S21 (kw + 3) (i11).toNatClampNeg ((S21.1 (kw + 3) (i11).toNatClampNeg) + v23)) (fun S25 => (vp_in i11 6 ∧ sn_lt (sn_pI S25 (kw + 1) (i11).toNatClampNeg v20) (fun S26 => (vp_in v20 96 ∧ (vp_in v20 96 ∧ sn_lt (sn_pI S26 (kw + 4) (v20).toNatClampNeg ((S26.1 (kw + 4) (v20).toNatClampNeg) ||| (1 <<< (i11 &&& 31)))) (fun S27 => wpX0_of0 w i11 1 S27 (fun (r28 : Int32) => ((¬ v20 = r28 → k15 S27) ∧ (v20 = r28 → (vp_in i11 6 ∧ sn_lt (sn_pI S27 (kw + 2) (i11).toNatClampNeg (p1 + 1)) (fun S29 => k15 S29))))))))))))) (fun (k24 : Int32 → Prop) => ((¬ v20 = (S21.1 (kw + 1) (i11).toNatClampNeg) → k24 0) ∧ (v20 = (S21.1 (kw + 1) (i11).toNatClampNeg) → k24 1)))))) (fun (k22 : Int32 → sn_S → Prop) => (((lg_cmp r18 (-4000000000)) = 0 → wpX4_best w kw i11 x10 p2 S19 (fun (r30 : Int32) (S31 : sn_S) => k22 r30 S31)) ∧ (¬ (lg_cmp r18 (-4000000000)) = 0 → (vp_in i11 6 ∧ k22 (S19.1 (kw + 1) (i11).toNatClampNeg) S19))))))) ∧ (¬ ((p1 + 1) - (p1 + 1) / r17 * r17) = 0 → k15 S12)))))))))))))) 0 S)
theorem wkX4_minute {w : sn_W} {C : sn_C} (hO : sn_Ok LoX w C RX4 cX4_minute 6 none [] "minute") (kw : Nat) (p1 : Int32) (p2 : Int32) (S : sn_S) (hkw : isW kw = true) (Q : sn_S → Prop) : wpX4_minute w kw p1 p2 S Q → sn_G LoX w rmX4_minute (sn_qV Q) sn_noE C 0 0 0 [(0, .ref (w.2.2.1 kw)), (1, .int p1), (2, .int p2)] [] S := by
  unfold wpX4_minute
  generalize hQq : (sn_qV Q) = Qq
  refine sn_iload_n hO 1 rfl dX4_minute_0 ?_
  refine sn_bipush hO kb_12 dX4_minute_1 ?_
  refine sn_idiv hO (by decide) dX4_minute_3 ?_
  refine sn_nmI (fun x10 => ?_)
  refine sn_istore_n hO (lv' := [(3, .int x10), (0, .ref (w.2.2.1 kw)), (1, .int p1), (2, .int p2)]) (by decide) rfl dX4_minute_4 ?_
  refine sn_iconst hO kc_0 dX4_minute_5 ?_
  refine sn_istore hO (lv' := [(4, .int 0), (3, .int x10), (0, .ref (w.2.2.1 kw)), (1, .int p1), (2, .int p2)]) (by decide) rfl dX4_minute_6 ?_
  refine sn_sub [2, 3, 4, 1, 0] rfl ?_
  refine sn_lp2_walk (Gd := fun (i11 : Int32) (S12 : sn_S) => sn_G LoX w rmX4_minute Qq sn_noE C 0 0 8 [(0, .ref (w.2.2.1 kw)), (1, .int p1), (2, .int p2), (3, .int x10), (4, .int i11)] [] S12) ?_ _ _
  intro rc13 hrc13 i11 S12
  refine sn_iload hO 4 rfl dX4_minute_8 ?_
  refine sn_aload_n hO 0 rfl dX4_minute_10 ?_
  refine sn_getF hO (fX4_3 kw) (atW0 (k := kw) hkw) dX4_minute_11 ?_
  refine sn_getFN hO fX4_32 atX_0 dX4_minute_14 ?_
  refine sn_getIN hO fX4_36 atX_2 dX4_minute_17 ?_
  refine sn_icmp_ge hO 190 (by decide) dX4_minute_20 ?_ ?_
  · subst hQq
    exact sn_vret hO rfl dX4_minute_190
  · refine sn_aload_n hO 0 rfl dX4_minute_23 ?_
    refine sn_getF hO (fX4_19 kw) (atW0 (k := kw) hkw) dX4_minute_24 ?_
    refine sn_iload hO 4 rfl dX4_minute_27 ?_
    refine sn_iald hO (atW2 (k := kw) hkw) rfl dX4_minute_29 ?_
    refine sn_iconst hO kc_m1 dX4_minute_30 ?_
    refine sn_jn_walk (fun (k : sn_S → Prop) => ∀ (S14 : sn_S), k S14 → sn_G LoX w rmX4_minute Qq sn_noE C 0 0 184 [(0, .ref (w.2.2.1 kw)), (1, .int p1), (2, .int p2), (3, .int x10), (4, .int i11)] [] S14) ?_ ?_
    · intro S14
      refine sn_iinc hO (lv' := [(4, .int (i11 + 1)), (0, .ref (w.2.2.1 kw)), (1, .int p1), (2, .int p2), (3, .int x10)]) 4 rfl ki_1 (by decide) rfl dX4_minute_184 ?_
      refine sn_goto hO 8 (by decide) dX4_minute_187 ?_
      refine sn_sub [1, 2, 3, 4, 0] rfl ?_
      exact hrc13 _ _
    · intro k15 hk15
      refine sn_icmp_ne hO 184 (by decide) dX4_minute_31 ?_ ?_
      · exact hk15 _
      · refine sn_aload_n hO 0 rfl dX4_minute_34 ?_
        refine sn_getI hO (fX4_28 kw) (atW0 (k := kw) hkw) dX4_minute_35 ?_
        refine sn_iload hO 4 rfl dX4_minute_38 ?_
        refine sn_callSN hO (c2 := 0) (s2 := 0) (rm := rmX0_isOf) [.int (S12.1 kw 4), .int i11] csX4_118 (fun h => ctX0_isOf h) ⟨Nat.le_of_ble_eq_true rfl, Nat.le_of_ble_eq_true rfl⟩ rfl rfl (Nat.le_of_ble_eq_true rfl) ⟨Nat.le_of_ble_eq_true rfl, Nat.le_of_ble_eq_true rfl, rfl, rfl⟩ dX4_minute_40 (sn_bIp (fun r16 => ?_)) sn_x0
        refine sn_if_ne hO 184 (by decide) dX4_minute_43 ?_ ?_
        · exact hk15 _
        · refine sn_iload_n hO 1 rfl dX4_minute_46 ?_
          refine sn_iconst hO kc_1 dX4_minute_47 ?_
          refine sn_iadd hO dX4_minute_48 ?_
          refine sn_aload_n hO 0 rfl dX4_minute_49 ?_
          refine sn_getF hO (fX4_3 kw) (atW0 (k := kw) hkw) dX4_minute_50 ?_
          refine sn_iload hO 4 rfl dX4_minute_53 ?_
          refine sn_iconst hO kc_2 dX4_minute_55 ?_
          refine sn_callVN hO (c2 := 0) (s2 := 0) (rm := rmX0_of0) [.int i11, .int 2] cvX4_41 (fun _ => sn_Rv_K atX_0) (fun h => ctX0_of0 h) ⟨Nat.le_of_ble_eq_true rfl, Nat.le_of_ble_eq_true rfl⟩ rfl rfl (Nat.le_of_ble_eq_true rfl) ⟨Nat.le_of_ble_eq_true rfl, Nat.le_of_ble_eq_true rfl, rfl, rfl⟩ dX4_minute_56 (sn_bIp (fun r17 => ?_)) sn_x0
          refine sn_iremP hO dX4_minute_59 ?_
          refine sn_if_eq hO 66 (by decide) dX4_minute_60 ?_ ?_
          · refine sn_aload_n hO 0 rfl dX4_minute_66 ?_
            refine sn_iconst hO kc_2 dX4_minute_67 ?_
            refine sn_iload hO 4 rfl dX4_minute_68 ?_
            refine sn_aload_n hO 0 rfl dX4_minute_70 ?_
            refine sn_getF hO (fX4_15 kw) (atW0 (k := kw) hkw) dX4_minute_71 ?_
            refine sn_iload hO 4 rfl dX4_minute_74 ?_
            refine sn_iald hO (atW1 (k := kw) hkw) rfl dX4_minute_76 ?_
            refine sn_iload_n hO 3 rfl dX4_minute_77 ?_
            refine sn_iload_n hO 2 rfl dX4_minute_78 ?_
            refine sn_callV hO (c2 := 0) (s2 := 0) (rm := rmX4_asks) [.int 2, .int i11, .int (S12.1 (kw + 1) (i11).toNatClampNeg), .int x10, .int p2] cvX4_106 (fun _ => sn_Rv_K (atW0 (k := kw) hkw)) (fun h => ctX4_asks hkw h) ⟨Nat.le_of_ble_eq_true rfl, Nat.le_of_ble_eq_true rfl⟩ rfl rfl (Nat.le_of_ble_eq_true rfl) ⟨Nat.le_of_ble_eq_true rfl, Nat.le_of_ble_eq_true rfl, rfl, rfl⟩ dX4_minute_79 (sn_bL (fun r18 S19 => ?_)) sn_x0
            refine sn_ldc2 hO q1128 dX4_minute_82 ?_
            refine sn_lcmp hO dX4_minute_85 ?_
            refine sn_jn_walk (fun (k : Int32 → sn_S → Prop) => ∀ (v20 : Int32) (S21 : sn_S), k v20 S21 → sn_G LoX w rmX4_minute Qq sn_noE C 0 0 107 [(0, .ref (w.2.2.1 kw)), (1, .int p1), (2, .int p2), (3, .int x10), (4, .int i11)] [.int v20] S21) ?_ ?_
            · intro v20 S21
              refine sn_istore hO (lv' := [(5, .int v20), (0, .ref (w.2.2.1 kw)), (1, .int p1), (2, .int p2), (3, .int x10), (4, .int i11)]) (by decide) rfl dX4_minute_107 ?_
              refine sn_aload_n hO 1 rfl dX4_minute_109 ?_
              refine sn_getF hO (fX4_22 kw) (atW0 (k := kw) hkw) dX4_minute_110 ?_
              refine sn_iload hO 5 rfl dX4_minute_113 ?_
              refine sn_dup2 hO rfl rfl dX4_minute_115 ?_
              refine sn_iald hO (atW3 (k := kw) hkw) rfl dX4_minute_116 ?_
              refine sn_iload hO 0 rfl dX4_minute_117 ?_
              refine sn_aload_n hO 1 rfl dX4_minute_119 ?_
              refine sn_getF hO (fX4_15 kw) (atW0 (k := kw) hkw) dX4_minute_120 ?_
              refine sn_iload hO 5 rfl dX4_minute_123 ?_
              refine sn_iald hO (atW1 (k := kw) hkw) rfl dX4_minute_125 ?_
              refine sn_jn_walk (fun (k : Int32 → Prop) => ∀ (v23 : Int32), k v23 → sn_G LoX w rmX4_minute Qq sn_noE C 0 0 134 [(0, .ref (w.2.2.1 kw)), (1, .int p1), (2, .int p2), (3, .int x10), (4, .int i11), (5, .int v20)] [.int v23, .int (S21.1 (kw + 3) (i11).toNatClampNeg), .int i11, .ref (w.2.2.1 (kw + 3))] S21) ?_ ?_
              · intro v23
                refine sn_iadd hO dX4_minute_134 ?_
                refine sn_iast hO (atW3 (k := kw) hkw) rfl dX4_minute_135 ?_
                refine sn_nmS (fun S25 => ?_)
                refine sn_aload_n hO 0 rfl dX4_minute_136 ?_
                refine sn_getF hO (fX4_15 kw) (atW0 (k := kw) hkw) dX4_minute_137 ?_
                refine sn_iload hO 4 rfl dX4_minute_140 ?_
                refine sn_iload hO 5 rfl dX4_minute_142 ?_
                refine sn_iast hO (atW1 (k := kw) hkw) rfl dX4_minute_144 ?_
                refine sn_nmS (fun S26 => ?_)
                refine sn_aload_n hO 0 rfl dX4_minute_145 ?_
                refine sn_getF hO (fX4_25 kw) (atW0 (k := kw) hkw) dX4_minute_146 ?_
                refine sn_iload hO 5 rfl dX4_minute_149 ?_
                refine sn_dup2 hO rfl rfl dX4_minute_151 ?_
                refine sn_iald hO (atW4 (k := kw) hkw) rfl dX4_minute_152 ?_
                refine sn_iconst hO kc_1 dX4_minute_153 ?_
                refine sn_iload hO 4 rfl dX4_minute_154 ?_
                refine sn_ishl hO dX4_minute_156 ?_
                refine sn_ior hO dX4_minute_157 ?_
                refine sn_iast hO (atW4 (k := kw) hkw) rfl dX4_minute_158 ?_
                refine sn_nmS (fun S27 => ?_)
                refine sn_iload hO 5 rfl dX4_minute_159 ?_
                refine sn_aload_n hO 0 rfl dX4_minute_161 ?_
                refine sn_getF hO (fX4_3 kw) (atW0 (k := kw) hkw) dX4_minute_162 ?_
                refine sn_iload hO 4 rfl dX4_minute_165 ?_
                refine sn_iconst hO kc_1 dX4_minute_167 ?_
                refine sn_callVN hO (c2 := 0) (s2 := 0) (rm := rmX0_of0) [.int i11, .int 1] cvX4_41 (fun _ => sn_Rv_K atX_0) (fun h => ctX0_of0 h) ⟨Nat.le_of_ble_eq_true rfl, Nat.le_of_ble_eq_true rfl⟩ rfl rfl (Nat.le_of_ble_eq_true rfl) ⟨Nat.le_of_ble_eq_true rfl, Nat.le_of_ble_eq_true rfl, rfl, rfl⟩ dX4_minute_168 (sn_bIp (fun r28 => ?_)) sn_x0
                refine sn_icmp_ne hO 184 (by decide) dX4_minute_171 ?_ ?_
                · refine sn_sub [0, 1, 2, 3, 4] rfl ?_
                  exact hk15 _
                · refine sn_aload_n hO 0 rfl dX4_minute_174 ?_
                  refine sn_getF hO (fX4_19 kw) (atW0 (k := kw) hkw) dX4_minute_175 ?_
                  refine sn_iload hO 4 rfl dX4_minute_178 ?_
                  refine sn_iload_n hO 1 rfl dX4_minute_180 ?_
                  refine sn_iconst hO kc_1 dX4_minute_181 ?_
                  refine sn_iadd hO dX4_minute_182 ?_
                  refine sn_iast hO (atW2 (k := kw) hkw) rfl dX4_minute_183 ?_
                  refine sn_nmS (fun S29 => ?_)
                  refine sn_sub [0, 1, 2, 3, 4] rfl ?_
                  exact hk15 _
              · intro k24 hk24
                refine sn_icmp_ne hO 133 (by decide) dX4_minute_126 ?_ ?_
                · refine sn_iconst hO kc_0 dX4_minute_133 ?_
                  refine sn_sub [1, 2, 3, 4, 5, 0] rfl ?_
                  exact hk24 _
                · refine sn_iconst hO kc_1 dX4_minute_129 ?_
                  refine sn_goto hO 134 (by decide) dX4_minute_130 ?_
                  refine sn_sub [1, 2, 3, 4, 5, 0] rfl ?_
                  exact hk24 _
            · intro k22 hk22
              refine sn_if_eq hO 99 (by decide) dX4_minute_86 ?_ ?_
              · refine sn_aload_n hO 0 rfl dX4_minute_99 ?_
                refine sn_iload hO 4 rfl dX4_minute_100 ?_
                refine sn_iload_n hO 3 rfl dX4_minute_102 ?_
                refine sn_iload_n hO 2 rfl dX4_minute_103 ?_
                refine sn_callV hO (c2 := 0) (s2 := 0) (rm := rmX4_best) [.int i11, .int x10, .int p2] cvX4_122 (fun _ => sn_Rv_K (atW0 (k := kw) hkw)) (fun h => ctX4_best hkw h) ⟨Nat.le_of_ble_eq_true rfl, Nat.le_of_ble_eq_true rfl⟩ rfl rfl (Nat.le_of_ble_eq_true rfl) ⟨Nat.le_of_ble_eq_true rfl, Nat.le_of_ble_eq_true rfl, rfl, rfl⟩ dX4_minute_104 (sn_bI (fun r30 S31 => ?_)) sn_x0
                exact hk22 _ _
              · refine sn_aload_n hO 0 rfl dX4_minute_89 ?_
                refine sn_getF hO (fX4_15 kw) (atW0 (k := kw) hkw) dX4_minute_90 ?_
                refine sn_iload hO 4 rfl dX4_minute_93 ?_
                refine sn_iald hO (atW1 (k := kw) hkw) rfl dX4_minute_95 ?_
                refine sn_goto hO 107 (by decide) dX4_minute_96 ?_
                exact hk22 _ _
          · refine sn_goto hO 184 (by decide) dX4_minute_63 ?_
            exact hk15 _
theorem ctX4_minute {w : sn_W} {kw : Nat} {p1 : Int32} {p2 : Int32} (hkw : isW kw = true) {S : sn_S} {Q : sn_S → Prop} (h : wpX4_minute w kw p1 p2 S Q) : sn_Ct LoX w yX4_minute (ws_ yX4_minute cX4_minute 6 none) rmX4_minute [.ref (w.2.2.1 kw), .int p1, .int p2] S (sn_qV Q) sn_noE := sn_Ct_of (XX_O w) (by decide) (Nat.le_of_ble_eq_true rfl) RX4 rfl (fun C hO => wkX4_minute hO kw p1 p2 S hkw Q h)
def rmX0_looks : Room := { frames := 264, cells := 0, slots := 0, locals := 13009 }
/-- SnailPost.looks()V -/
def wpX0_looks (w : sn_W) (S : sn_S) (Q : sn_S → Prop) : Prop :=
  ((¬ (S.1 0 13) = (S.1 0 8) → sn_lt (sn_pI S 0 13 (S.1 0 8)) (fun S10 => wpX4_begins w 16 S10 (fun (S11 : sn_S) => sn_lp2 (fun (rc14 : Int32 → sn_S → Prop) (i12 : Int32) (S13 : sn_S) => ((60 ≤ i12 → Q S13) ∧ (¬ 60 ≤ i12 → (vp_in (i12 / 12) 5 ∧ wpX4_minute w 16 i12 (S13.1 6 ((i12 / 12)).toNatClampNeg) S13 (fun (S15 : sn_S) => (sn_cp 0 (6 * i12) 6 6 360 ∧ sn_lt (sn_pA S15 21 (va_cpy (S15.1 (16 + 1)) (S15.1 21) (0 : Int32).toNatClampNeg ((6 * i12)).toNatClampNeg (6 : Int32).toNatClampNeg)) (fun S16 => rc14 (i12 + 1) S16))))))) 0 S11))) ∧ ((S.1 0 13) = (S.1 0 8) → Q S))
theorem wkX0_looks {w : sn_W} {C : sn_C} (hO : sn_Ok LoX w C RX0 cX0_looks 2 none [] "looks") (S : sn_S) (Q : sn_S → Prop) : wpX0_looks w S Q → sn_G LoX w rmX0_looks (sn_qV Q) sn_noE C 0 0 0 [(0, .ref (w.2.2.1 0))] [] S := by
  unfold wpX0_looks
  generalize hQq : (sn_qV Q) = Qq
  refine sn_aload_n hO 0 rfl dX0_looks_0 ?_
  refine sn_getI hO fX0_54 atX_0 dX0_looks_1 ?_
  refine sn_aload_n hO 0 rfl dX0_looks_4 ?_
  refine sn_getI hO fX0_106 atX_0 dX0_looks_5 ?_
  refine sn_icmp_ne hO 12 (by decide) dX0_looks_8 ?_ ?_
  · refine sn_aload_n hO 0 rfl dX0_looks_12 ?_
    refine sn_aload_n hO 0 rfl dX0_looks_13 ?_
    refine sn_getI hO fX0_106 atX_0 dX0_looks_14 ?_
    refine sn_putI hO fX0_54 atX_0 rfl rfl dX0_looks_17 ?_
    refine sn_nmS (fun S10 => ?_)
    refine sn_aload_n hO 0 rfl dX0_looks_20 ?_
    refine sn_getF hO fX0_47 atX_0 dX0_looks_21 ?_
    refine sn_callV hO (c2 := 0) (s2 := 0) (rm := rmX4_begins) [] cvX0_229 (fun _ => sn_Rv_K (atW0 (k := 16) rfl)) (fun h => ctX4_begins rfl h) ⟨Nat.le_of_ble_eq_true rfl, Nat.le_of_ble_eq_true rfl⟩ rfl rfl (Nat.le_of_ble_eq_true rfl) ⟨Nat.le_of_ble_eq_true rfl, Nat.le_of_ble_eq_true rfl, rfl, rfl⟩ dX0_looks_24 (sn_bV (fun S11 => ?_)) sn_x0
    refine sn_iconst hO kc_0 dX0_looks_27 ?_
    refine sn_istore_n hO (lv' := [(1, .int 0), (0, .ref (w.2.2.1 0))]) (by decide) rfl dX0_looks_28 ?_
    refine sn_sub [1, 0] rfl ?_
    refine sn_lp2_walk (Gd := fun (i12 : Int32) (S13 : sn_S) => sn_G LoX w rmX0_looks Qq sn_noE C 0 0 29 [(0, .ref (w.2.2.1 0)), (1, .int i12)] [] S13) ?_ _ _
    intro rc14 hrc14 i12 S13
    refine sn_iload_n hO 1 rfl dX0_looks_29 ?_
    refine sn_bipush hO kb_60 dX0_looks_30 ?_
    refine sn_icmp_ge hO 82 (by decide) dX0_looks_32 ?_ ?_
    · subst hQq
      exact sn_vret hO rfl dX0_looks_82
    · refine sn_aload_n hO 0 rfl dX0_looks_35 ?_
      refine sn_getF hO fX0_47 atX_0 dX0_looks_36 ?_
      refine sn_iload_n hO 1 rfl dX0_looks_39 ?_
      refine sn_aload_n hO 0 rfl dX0_looks_40 ?_
      refine sn_getF hO fX0_16 atX_0 dX0_looks_41 ?_
      refine sn_getFN hO fX0_170 atX_2 dX0_looks_44 ?_
      refine sn_iload_n hO 1 rfl dX0_looks_47 ?_
      refine sn_bipush hO kb_12 dX0_looks_48 ?_
      refine sn_idiv hO (by decide) dX0_looks_50 ?_
      refine sn_iald hO atX_6 rfl dX0_looks_51 ?_
      refine sn_callV hO (c2 := 0) (s2 := 0) (rm := rmX4_minute) [.int i12, .int (S13.1 6 ((i12 / 12)).toNatClampNeg)] cvX0_232 (fun _ => sn_Rv_K (atW0 (k := 16) rfl)) (fun h => ctX4_minute rfl h) ⟨Nat.le_of_ble_eq_true rfl, Nat.le_of_ble_eq_true rfl⟩ rfl rfl (Nat.le_of_ble_eq_true rfl) ⟨Nat.le_of_ble_eq_true rfl, Nat.le_of_ble_eq_true rfl, rfl, rfl⟩ dX0_looks_52 (sn_bV (fun S15 => ?_)) sn_x0
      refine sn_aload_n hO 0 rfl dX0_looks_55 ?_
      refine sn_getF hO fX0_47 atX_0 dX0_looks_56 ?_
      refine sn_getFN hO (fX0_236 16) (atW0 (k := 16) rfl) dX0_looks_59 ?_
      refine sn_iconst hO kc_0 dX0_looks_62 ?_
      refine sn_aload_n hO 0 rfl dX0_looks_63 ?_
      refine sn_getF hO fX0_51 atX_0 dX0_looks_64 ?_
      refine sn_bipush hO kb_6 dX0_looks_67 ?_
      refine sn_iload_n hO 1 rfl dX0_looks_69 ?_
      refine sn_imul hO dX0_looks_70 ?_
      refine sn_bipush hO kb_6 dX0_looks_71 ?_
      refine sn_copyI hO (atW1 (k := 16) rfl) atX_21 rfl q1217 q594 q593 q136 ⟨Nat.le_of_ble_eq_true rfl, by decide⟩ dX0_looks_73 ?_
      refine sn_nmS (fun S16 => ?_)
      refine sn_iinc hO (lv' := [(1, .int (i12 + 1)), (0, .ref (w.2.2.1 0))]) 1 rfl ki_1 (by decide) rfl dX0_looks_76 ?_
      refine sn_goto hO 29 (by decide) dX0_looks_79 ?_
      refine sn_sub [1, 0] rfl ?_
      exact hrc14 _ _
  · subst hQq
    exact sn_vret hO rfl dX0_looks_11
theorem ctX0_looks {w : sn_W} {S : sn_S} {Q : sn_S → Prop} (h : wpX0_looks w S Q) : sn_Ct LoX w yX0_looks (ws_ yX0_looks cX0_looks 2 none) rmX0_looks [.ref (w.2.2.1 0)] S (sn_qV Q) sn_noE := sn_Ct_of (XX_O w) (by decide) (Nat.le_of_ble_eq_true rfl) RX0 rfl (fun C hO => wkX0_looks hO S Q h)
def rmX0_where : Room := { frames := 265, cells := 0, slots := 0, locals := 13030 }
/-- SnailPost.where(II)I -/
def wpX0_where (w : sn_W) (p1 : Int32) (p2 : Int32) (S : sn_S) (Q : Int32 → sn_S → Prop) : Prop :=
  wpX0_isSnail w p1 S (fun (r10 : Int32) => ((r10 = 0 → Q (-1) S) ∧ (¬ r10 = 0 → wpX0_in w p2 (-1) 59 (fun (r11 : Int32) => ((¬ r11 = 0 → wpX0_looks w S (fun (S12 : sn_S) => ((¬ p2 = (-1) → (vp_in ((6 * p2) + p1) 360 ∧ Q (S12.1 21 (((6 * p2) + p1)).toNatClampNeg) S12)) ∧ (p2 = (-1) → wpX0_of0 w p1 0 S12 (fun (r13 : Int32) => Q r13 S12))))) ∧ (r11 = 0 → Q (-1) S))))))
theorem wkX0_where {w : sn_W} {C : sn_C} (hO : sn_Ok LoX w C RX0 cX0_where 3 (some .int) [] "where") (p1 : Int32) (p2 : Int32) (S : sn_S) (Q : Int32 → sn_S → Prop) : wpX0_where w p1 p2 S Q → sn_G LoX w rmX0_where (sn_qI Q) sn_noE C 0 0 0 [(0, .ref (w.2.2.1 0)), (1, .int p1), (2, .int p2)] [] S := by
  unfold wpX0_where
  generalize hQq : (sn_qI Q) = Qq
  refine sn_aload_n hO 0 rfl dX0_where_0 ?_
  refine sn_iload_n hO 1 rfl dX0_where_1 ?_
  refine sn_callV hO (c2 := 0) (s2 := 0) (rm := rmX0_isSnail) [.int p1] cvX0_158 (fun _ => sn_Rv_K atX_0) (fun h => ctX0_isSnail h) ⟨Nat.le_of_ble_eq_true rfl, Nat.le_of_ble_eq_true rfl⟩ rfl rfl (Nat.le_of_ble_eq_true rfl) ⟨Nat.le_of_ble_eq_true rfl, Nat.le_of_ble_eq_true rfl, rfl, rfl⟩ dX0_where_2 (sn_bIp (fun r10 => ?_)) sn_x0
  refine sn_if_eq hO 18 (by decide) dX0_where_5 ?_ ?_
  · refine sn_iconst hO kc_m1 dX0_where_18 ?_
    subst hQq
    exact sn_iret hO rfl dX0_where_19
  · refine sn_iload_n hO 2 rfl dX0_where_8 ?_
    refine sn_iconst hO kc_m1 dX0_where_9 ?_
    refine sn_bipush hO kb_59 dX0_where_10 ?_
    refine sn_callS hO (c2 := 0) (s2 := 0) (rm := rmX0_in) [.int p2, .int (-1), .int 59] csX0_112 (fun h => ctX0_in h) ⟨Nat.le_of_ble_eq_true rfl, Nat.le_of_ble_eq_true rfl⟩ rfl rfl (Nat.le_of_ble_eq_true rfl) ⟨Nat.le_of_ble_eq_true rfl, Nat.le_of_ble_eq_true rfl, rfl, rfl⟩ dX0_where_12 (sn_bIp (fun r11 => ?_)) sn_x0
    refine sn_if_ne hO 20 (by decide) dX0_where_15 ?_ ?_
    · refine sn_aload_n hO 0 rfl dX0_where_20 ?_
      refine sn_callV hO (c2 := 0) (s2 := 0) (rm := rmX0_looks) [] cvX0_245 (fun _ => sn_Rv_K atX_0) (fun h => ctX0_looks h) ⟨Nat.le_of_ble_eq_true rfl, Nat.le_of_ble_eq_true rfl⟩ rfl rfl (Nat.le_of_ble_eq_true rfl) ⟨Nat.le_of_ble_eq_true rfl, Nat.le_of_ble_eq_true rfl, rfl, rfl⟩ dX0_where_21 (sn_bV (fun S12 => ?_)) sn_x0
      refine sn_iload_n hO 2 rfl dX0_where_24 ?_
      refine sn_iconst hO kc_m1 dX0_where_25 ?_
      refine sn_icmp_ne hO 38 (by decide) dX0_where_26 ?_ ?_
      · refine sn_aload_n hO 0 rfl dX0_where_38 ?_
        refine sn_getF hO fX0_51 atX_0 dX0_where_39 ?_
        refine sn_bipush hO kb_6 dX0_where_42 ?_
        refine sn_iload_n hO 2 rfl dX0_where_44 ?_
        refine sn_imul hO dX0_where_45 ?_
        refine sn_iload_n hO 1 rfl dX0_where_46 ?_
        refine sn_iadd hO dX0_where_47 ?_
        refine sn_iald hO atX_21 rfl dX0_where_48 ?_
        subst hQq
        exact sn_iret hO rfl dX0_where_49
      · refine sn_aload_n hO 0 rfl dX0_where_29 ?_
        refine sn_iload_n hO 1 rfl dX0_where_30 ?_
        refine sn_iconst hO kc_0 dX0_where_31 ?_
        refine sn_callV hO (c2 := 0) (s2 := 0) (rm := rmX0_of0) [.int p1, .int 0] cvX0_143 (fun _ => sn_Rv_K atX_0) (fun h => ctX0_of0 h) ⟨Nat.le_of_ble_eq_true rfl, Nat.le_of_ble_eq_true rfl⟩ rfl rfl (Nat.le_of_ble_eq_true rfl) ⟨Nat.le_of_ble_eq_true rfl, Nat.le_of_ble_eq_true rfl, rfl, rfl⟩ dX0_where_32 (sn_bIp (fun r13 => ?_)) sn_x0
        refine sn_goto hO 49 (by decide) dX0_where_35 ?_
        subst hQq
        exact sn_iret hO rfl dX0_where_49
    · refine sn_iconst hO kc_m1 dX0_where_18 ?_
      subst hQq
      exact sn_iret hO rfl dX0_where_19
theorem ctX0_where {w : sn_W} {p1 : Int32} {p2 : Int32} {S : sn_S} {Q : Int32 → sn_S → Prop} (h : wpX0_where w p1 p2 S Q) : sn_Ct LoX w yX0_where (ws_ yX0_where cX0_where 3 (some .int)) rmX0_where [.ref (w.2.2.1 0), .int p1, .int p2] S (sn_qI Q) sn_noE := sn_Ct_of (XX_O w) (by decide) (Nat.le_of_ble_eq_true rfl) RX0 rfl (fun C hO => wkX0_where hO p1 p2 S Q h)
def rmX0_day : Room := { frames := 265, cells := 0, slots := 0, locals := 13030 }
/-- SnailPost.day(II)I -/
def wpX0_day (w : sn_W) (p1 : Int32) (p2 : Int32) (S : sn_S) (Q : Int32 → sn_S → Prop) : Prop :=
  wpX0_isSnail w p1 S (fun (r10 : Int32) => ((r10 = 0 → Q (-1) S) ∧ (¬ r10 = 0 → wpX0_in w p2 0 2 (fun (r11 : Int32) => ((¬ r11 = 0 → wpX0_looks w S (fun (S12 : sn_S) => ((p2 = 1 → sn_lp2 (fun (rc15 : Int32 → Int32 → Prop) (i13 : Int32) (i14 : Int32) => ((96 ≤ i14 → Q i13 S12) ∧ (¬ 96 ≤ i14 → (vp_in i14 96 ∧ sn_lt (i13 + (((S12.1 (16 + 4) (i14).toNatClampNeg) >>> (p1 &&& 31)) &&& 1)) (fun x16 => rc15 x16 (i14 + 1)))))) 0 0) ∧ (¬ p2 = 1 → ((¬ p2 = 0 → (vp_in p1 6 ∧ Q (S12.1 (16 + 3) (p1).toNatClampNeg) S12)) ∧ (p2 = 0 → (vp_in p1 6 ∧ Q (S12.1 (16 + 2) (p1).toNatClampNeg) S12))))))) ∧ (r11 = 0 → Q (-1) S))))))
theorem wkX0_day {w : sn_W} {C : sn_C} (hO : sn_Ok LoX w C RX0 cX0_day 5 (some .int) [] "day") (p1 : Int32) (p2 : Int32) (S : sn_S) (Q : Int32 → sn_S → Prop) : wpX0_day w p1 p2 S Q → sn_G LoX w rmX0_day (sn_qI Q) sn_noE C 0 0 0 [(0, .ref (w.2.2.1 0)), (1, .int p1), (2, .int p2)] [] S := by
  unfold wpX0_day
  generalize hQq : (sn_qI Q) = Qq
  refine sn_aload_n hO 0 rfl dX0_day_0 ?_
  refine sn_iload_n hO 1 rfl dX0_day_1 ?_
  refine sn_callV hO (c2 := 0) (s2 := 0) (rm := rmX0_isSnail) [.int p1] cvX0_158 (fun _ => sn_Rv_K atX_0) (fun h => ctX0_isSnail h) ⟨Nat.le_of_ble_eq_true rfl, Nat.le_of_ble_eq_true rfl⟩ rfl rfl (Nat.le_of_ble_eq_true rfl) ⟨Nat.le_of_ble_eq_true rfl, Nat.le_of_ble_eq_true rfl, rfl, rfl⟩ dX0_day_2 (sn_bIp (fun r10 => ?_)) sn_x0
  refine sn_if_eq hO 17 (by decide) dX0_day_5 ?_ ?_
  · refine sn_iconst hO kc_m1 dX0_day_17 ?_
    subst hQq
    exact sn_iret hO rfl dX0_day_18
  · refine sn_iload_n hO 2 rfl dX0_day_8 ?_
    refine sn_iconst hO kc_0 dX0_day_9 ?_
    refine sn_iconst hO kc_2 dX0_day_10 ?_
    refine sn_callS hO (c2 := 0) (s2 := 0) (rm := rmX0_in) [.int p2, .int 0, .int 2] csX0_112 (fun h => ctX0_in h) ⟨Nat.le_of_ble_eq_true rfl, Nat.le_of_ble_eq_true rfl⟩ rfl rfl (Nat.le_of_ble_eq_true rfl) ⟨Nat.le_of_ble_eq_true rfl, Nat.le_of_ble_eq_true rfl, rfl, rfl⟩ dX0_day_11 (sn_bIp (fun r11 => ?_)) sn_x0
    refine sn_if_ne hO 19 (by decide) dX0_day_14 ?_ ?_
    · refine sn_aload_n hO 0 rfl dX0_day_19 ?_
      refine sn_callV hO (c2 := 0) (s2 := 0) (rm := rmX0_looks) [] cvX0_245 (fun _ => sn_Rv_K atX_0) (fun h => ctX0_looks h) ⟨Nat.le_of_ble_eq_true rfl, Nat.le_of_ble_eq_true rfl⟩ rfl rfl (Nat.le_of_ble_eq_true rfl) ⟨Nat.le_of_ble_eq_true rfl, Nat.le_of_ble_eq_true rfl, rfl, rfl⟩ dX0_day_20 (sn_bV (fun S12 => ?_)) sn_x0
      refine sn_iload_n hO 2 rfl dX0_day_23 ?_
      refine sn_iconst hO kc_1 dX0_day_24 ?_
      refine sn_icmp_eq hO 54 (by decide) dX0_day_25 ?_ ?_
      · refine sn_iconst hO kc_0 dX0_day_54 ?_
        refine sn_istore_n hO (lv' := [(3, .int 0), (0, .ref (w.2.2.1 0)), (1, .int p1), (2, .int p2)]) (by decide) rfl dX0_day_55 ?_
        refine sn_iconst hO kc_0 dX0_day_56 ?_
        refine sn_istore hO (lv' := [(4, .int 0), (3, .int 0), (0, .ref (w.2.2.1 0)), (1, .int p1), (2, .int p2)]) (by decide) rfl dX0_day_57 ?_
        refine sn_sub [2, 3, 1, 0] rfl ?_
        refine sn_lp2_walk (Gd := fun (i13 : Int32) (i14 : Int32) => sn_G LoX w rmX0_day Qq sn_noE C 0 0 59 [(0, .ref (w.2.2.1 0)), (1, .int p1), (3, .int i13), (4, .int i14)] [] S12) ?_ _ _
        intro rc15 hrc15 i13 i14
        refine sn_iload hO 3 rfl dX0_day_59 ?_
        refine sn_bipush hO kb_96 dX0_day_61 ?_
        refine sn_icmp_ge hO 89 (by decide) dX0_day_63 ?_ ?_
        · refine sn_iload_n hO 2 rfl dX0_day_89 ?_
          subst hQq
          exact sn_iret hO rfl dX0_day_90
        · refine sn_iload_n hO 2 rfl dX0_day_66 ?_
          refine sn_aload_n hO 0 rfl dX0_day_67 ?_
          refine sn_getF hO fX0_47 atX_0 dX0_day_68 ?_
          refine sn_getFN hO (fX0_254 16) (atW0 (k := 16) rfl) dX0_day_71 ?_
          refine sn_iload hO 3 rfl dX0_day_74 ?_
          refine sn_iald hO (atW4 (k := 16) rfl) rfl dX0_day_76 ?_
          refine sn_iload_n hO 1 rfl dX0_day_77 ?_
          refine sn_ishr hO dX0_day_78 ?_
          refine sn_iconst hO kc_1 dX0_day_79 ?_
          refine sn_iand hO dX0_day_80 ?_
          refine sn_iadd hO dX0_day_81 ?_
          refine sn_nmI (fun x16 => ?_)
          refine sn_istore_n hO (lv' := [(3, .int x16), (0, .ref (w.2.2.1 0)), (1, .int p1), (4, .int i14)]) (by decide) rfl dX0_day_82 ?_
          refine sn_iinc hO (lv' := [(4, .int (i14 + 1)), (3, .int x16), (0, .ref (w.2.2.1 0)), (1, .int p1)]) 3 rfl ki_1 (by decide) rfl dX0_day_83 ?_
          refine sn_goto hO 59 (by decide) dX0_day_86 ?_
          refine sn_sub [2, 3, 1, 0] rfl ?_
          exact hrc15 _ _
      · refine sn_iload_n hO 2 rfl dX0_day_28 ?_
        refine sn_if_ne hO 44 (by decide) dX0_day_29 ?_ ?_
        · refine sn_aload_n hO 0 rfl dX0_day_44 ?_
          refine sn_getF hO fX0_47 atX_0 dX0_day_45 ?_
          refine sn_getFN hO (fX0_251 16) (atW0 (k := 16) rfl) dX0_day_48 ?_
          refine sn_iload_n hO 1 rfl dX0_day_51 ?_
          refine sn_iald hO (atW3 (k := 16) rfl) rfl dX0_day_52 ?_
          subst hQq
          exact sn_iret hO rfl dX0_day_53
        · refine sn_aload_n hO 0 rfl dX0_day_32 ?_
          refine sn_getF hO fX0_47 atX_0 dX0_day_33 ?_
          refine sn_getFN hO (fX0_248 16) (atW0 (k := 16) rfl) dX0_day_36 ?_
          refine sn_iload_n hO 1 rfl dX0_day_39 ?_
          refine sn_iald hO (atW2 (k := 16) rfl) rfl dX0_day_40 ?_
          refine sn_goto hO 53 (by decide) dX0_day_41 ?_
          subst hQq
          exact sn_iret hO rfl dX0_day_53
    · refine sn_iconst hO kc_m1 dX0_day_17 ?_
      subst hQq
      exact sn_iret hO rfl dX0_day_18
theorem ctX0_day {w : sn_W} {p1 : Int32} {p2 : Int32} {S : sn_S} {Q : Int32 → sn_S → Prop} (h : wpX0_day w p1 p2 S Q) : sn_Ct LoX w yX0_day (ws_ yX0_day cX0_day 5 (some .int)) rmX0_day [.ref (w.2.2.1 0), .int p1, .int p2] S (sn_qI Q) sn_noE := sn_Ct_of (XX_O w) (by decide) (Nat.le_of_ble_eq_true rfl) RX0 rfl (fun C hO => wkX0_day hO p1 p2 S Q h)
def rmX0_trail : Room := { frames := 265, cells := 0, slots := 0, locals := 13030 }
/-- SnailPost.trail(I)I -/
def wpX0_trail (w : sn_W) (p1 : Int32) (S : sn_S) (Q : Int32 → sn_S → Prop) : Prop :=
  wpX0_isCell w p1 (fun (r10 : Int32) => ((¬ r10 = 0 → wpX0_looks w S (fun (S11 : sn_S) => (vp_in p1 96 ∧ Q (S11.1 (16 + 4) (p1).toNatClampNeg) S11))) ∧ (r10 = 0 → Q (-1) S)))
theorem wkX0_trail {w : sn_W} {C : sn_C} (hO : sn_Ok LoX w C RX0 cX0_trail 2 (some .int) [] "trail") (p1 : Int32) (S : sn_S) (Q : Int32 → sn_S → Prop) : wpX0_trail w p1 S Q → sn_G LoX w rmX0_trail (sn_qI Q) sn_noE C 0 0 0 [(0, .ref (w.2.2.1 0)), (1, .int p1)] [] S := by
  unfold wpX0_trail
  generalize hQq : (sn_qI Q) = Qq
  refine sn_iload_n hO 1 rfl dX0_trail_0 ?_
  refine sn_callS hO (c2 := 0) (s2 := 0) (rm := rmX0_isCell) [.int p1] csX0_132 (fun h => ctX0_isCell h) ⟨Nat.le_of_ble_eq_true rfl, Nat.le_of_ble_eq_true rfl⟩ rfl rfl (Nat.le_of_ble_eq_true rfl) ⟨Nat.le_of_ble_eq_true rfl, Nat.le_of_ble_eq_true rfl, rfl, rfl⟩ dX0_trail_1 (sn_bIp (fun r10 => ?_)) sn_x0
  refine sn_if_ne hO 9 (by decide) dX0_trail_4 ?_ ?_
  · refine sn_aload_n hO 0 rfl dX0_trail_9 ?_
    refine sn_callV hO (c2 := 0) (s2 := 0) (rm := rmX0_looks) [] cvX0_245 (fun _ => sn_Rv_K atX_0) (fun h => ctX0_looks h) ⟨Nat.le_of_ble_eq_true rfl, Nat.le_of_ble_eq_true rfl⟩ rfl rfl (Nat.le_of_ble_eq_true rfl) ⟨Nat.le_of_ble_eq_true rfl, Nat.le_of_ble_eq_true rfl, rfl, rfl⟩ dX0_trail_10 (sn_bV (fun S11 => ?_)) sn_x0
    refine sn_aload_n hO 0 rfl dX0_trail_13 ?_
    refine sn_getF hO fX0_47 atX_0 dX0_trail_14 ?_
    refine sn_getFN hO (fX0_254 16) (atW0 (k := 16) rfl) dX0_trail_17 ?_
    refine sn_iload_n hO 1 rfl dX0_trail_20 ?_
    refine sn_iald hO (atW4 (k := 16) rfl) rfl dX0_trail_21 ?_
    subst hQq
    exact sn_iret hO rfl dX0_trail_22
  · refine sn_iconst hO kc_m1 dX0_trail_7 ?_
    subst hQq
    exact sn_iret hO rfl dX0_trail_8
theorem ctX0_trail {w : sn_W} {p1 : Int32} {S : sn_S} {Q : Int32 → sn_S → Prop} (h : wpX0_trail w p1 S Q) : sn_Ct LoX w yX0_trail (ws_ yX0_trail cX0_trail 2 (some .int)) rmX0_trail [.ref (w.2.2.1 0), .int p1] S (sn_qI Q) sn_noE := sn_Ct_of (XX_O w) (by decide) (Nat.le_of_ble_eq_true rfl) RX0 rfl (fun C hO => wkX0_trail hO p1 S Q h)
def rmX0_everyone : Room := { frames := 0, cells := 0, slots := 0, locals := 0 }
/-- SnailPost.everyone()I -/
def wpX0_everyone (w : sn_W) (S : sn_S) (Q : Int32 → Prop) : Prop :=
  Q ((1 <<< ((S.1 2 8) &&& 31)) - 1)
theorem wkX0_everyone {w : sn_W} {C : sn_C} (hO : sn_Ok LoX w C RX0 cX0_everyone 1 (some .int) [] "everyone") (S : sn_S) (Q : Int32 → Prop) : wpX0_everyone w S Q → sn_G LoX w rmX0_everyone (sn_qI (fun r S1 => S1 = S ∧ Q r)) sn_noE C 0 0 0 [(0, .ref (w.2.2.1 0))] [] S := by
  unfold wpX0_everyone
  generalize hQq : (sn_qI (fun r S1 => S1 = S ∧ Q r)) = Qq
  refine sn_iconst hO kc_1 dX0_everyone_0 ?_
  refine sn_aload_n hO 0 rfl dX0_everyone_1 ?_
  refine sn_getF hO fX0_16 atX_0 dX0_everyone_2 ?_
  refine sn_getIN hO fX0_116 atX_2 dX0_everyone_5 ?_
  refine sn_ishl hO dX0_everyone_8 ?_
  refine sn_iconst hO kc_1 dX0_everyone_9 ?_
  refine sn_isub hO dX0_everyone_10 ?_
  subst hQq
  exact fun h => sn_iret hO rfl dX0_everyone_11 ⟨rfl, h⟩
theorem ctX0_everyone {w : sn_W} {S : sn_S} {Q : Int32 → Prop} (h : wpX0_everyone w S Q) : sn_Ct LoX w yX0_everyone (ws_ yX0_everyone cX0_everyone 1 (some .int)) rmX0_everyone [.ref (w.2.2.1 0)] S (sn_qI (fun r S1 => S1 = S ∧ Q r)) sn_noE := sn_Ct_of (XX_O w) (by decide) (Nat.le_of_ble_eq_true rfl) RX0 rfl (fun C hO => wkX0_everyone hO S Q h)
def rmX0_isBest : Room := { frames := 1, cells := 0, slots := 0, locals := 22 }
/-- SnailPost.isBest(II)Z -/
def wpX0_isBest (w : sn_W) (p1 : Int32) (p2 : Int32) (S : sn_S) (Q : Int32 → Prop) : Prop :=
  wpX0_in w p1 1 5 (fun (r10 : Int32) => ((r10 = 0 → Q 0) ∧ (¬ r10 = 0 → wpX0_everyone w S (fun (r11 : Int32) => wpX0_in w p2 0 r11 (fun (r12 : Int32) => ((r12 = 0 → Q 0) ∧ (¬ r12 = 0 → Q 1)))))))
theorem wkX0_isBest {w : sn_W} {C : sn_C} (hO : sn_Ok LoX w C RX0 cX0_isBest 3 (some .boolean) [] "isBest") (p1 : Int32) (p2 : Int32) (S : sn_S) (Q : Int32 → Prop) : wpX0_isBest w p1 p2 S Q → sn_G LoX w rmX0_isBest (sn_qI (fun r S1 => S1 = S ∧ Q r)) sn_noE C 0 0 0 [(0, .ref (w.2.2.1 0)), (1, .int p1), (2, .int p2)] [] S := by
  unfold wpX0_isBest
  generalize hQq : (sn_qI (fun r S1 => S1 = S ∧ Q r)) = Qq
  refine sn_iload_n hO 1 rfl dX0_isBest_0 ?_
  refine sn_iconst hO kc_1 dX0_isBest_1 ?_
  refine sn_iconst hO kc_5 dX0_isBest_2 ?_
  refine sn_callS hO (c2 := 0) (s2 := 0) (rm := rmX0_in) [.int p1, .int 1, .int 5] csX0_112 (fun h => ctX0_in h) ⟨Nat.le_of_ble_eq_true rfl, Nat.le_of_ble_eq_true rfl⟩ rfl rfl (Nat.le_of_ble_eq_true rfl) ⟨Nat.le_of_ble_eq_true rfl, Nat.le_of_ble_eq_true rfl, rfl, rfl⟩ dX0_isBest_3 (sn_bIp (fun r10 => ?_)) sn_x0
  refine sn_if_eq hO 25 (by decide) dX0_isBest_6 ?_ ?_
  · refine sn_iconst hO kc_0 dX0_isBest_25 ?_
    subst hQq
    exact fun h => sn_zret hO (ty := .boolean) rfl rfl dX0_isBest_26 ⟨rfl, h⟩
  · refine sn_iload_n hO 2 rfl dX0_isBest_9 ?_
    refine sn_iconst hO kc_0 dX0_isBest_10 ?_
    refine sn_aload_n hO 0 rfl dX0_isBest_11 ?_
    refine sn_callV hO (c2 := 0) (s2 := 0) (rm := rmX0_everyone) [] cvX0_257 (fun _ => sn_Rv_K atX_0) (fun h => ctX0_everyone h) ⟨Nat.le_of_ble_eq_true rfl, Nat.le_of_ble_eq_true rfl⟩ rfl rfl (Nat.le_of_ble_eq_true rfl) ⟨Nat.le_of_ble_eq_true rfl, Nat.le_of_ble_eq_true rfl, rfl, rfl⟩ dX0_isBest_12 (sn_bIp (fun r11 => ?_)) sn_x0
    refine sn_callS hO (c2 := 0) (s2 := 0) (rm := rmX0_in) [.int p2, .int 0, .int r11] csX0_112 (fun h => ctX0_in h) ⟨Nat.le_of_ble_eq_true rfl, Nat.le_of_ble_eq_true rfl⟩ rfl rfl (Nat.le_of_ble_eq_true rfl) ⟨Nat.le_of_ble_eq_true rfl, Nat.le_of_ble_eq_true rfl, rfl, rfl⟩ dX0_isBest_15 (sn_bIp (fun r12 => ?_)) sn_x0
    refine sn_if_eq hO 25 (by decide) dX0_isBest_18 ?_ ?_
    · refine sn_iconst hO kc_0 dX0_isBest_25 ?_
      subst hQq
      exact fun h => sn_zret hO (ty := .boolean) rfl rfl dX0_isBest_26 ⟨rfl, h⟩
    · refine sn_iconst hO kc_1 dX0_isBest_21 ?_
      refine sn_goto hO 26 (by decide) dX0_isBest_22 ?_
      subst hQq
      exact fun h => sn_zret hO (ty := .boolean) rfl rfl dX0_isBest_26 ⟨rfl, h⟩
theorem ctX0_isBest {w : sn_W} {p1 : Int32} {p2 : Int32} {S : sn_S} {Q : Int32 → Prop} (h : wpX0_isBest w p1 p2 S Q) : sn_Ct LoX w yX0_isBest (ws_ yX0_isBest cX0_isBest 3 (some .boolean)) rmX0_isBest [.ref (w.2.2.1 0), .int p1, .int p2] S (sn_qI (fun r S1 => S1 = S ∧ Q r)) sn_noE := sn_Ct_of (XX_O w) (by decide) (Nat.le_of_ble_eq_true rfl) RX0 rfl (fun C hO => wkX0_isBest hO p1 p2 S Q h)
def rmX5_ends : Room := { frames := 1, cells := 0, slots := 0, locals := 64 }
/-- SnailPost$Lantern.ends(LSnailPost$Walk;)V -/
def wpX5_ends (w : sn_W) (kl : Nat) (k1w : Nat) (S : sn_S) (Q : sn_S → Prop) : Prop :=
  sn_jn (fun (v10 : Int32) (v11 : Int32) => sn_jn (fun (v13 : Int32) => sn_jn (fun (S15 : sn_S) => ((¬ v10 = (S15.1 kl 8) → sn_lt (sn_pI S15 kl 10 ((S15.1 kl 10) + 0)) (fun S17 => Q S17)) ∧ (v10 = (S15.1 kl 8) → ((¬ v11 = (S15.1 kl 9) → sn_lt (sn_pI S15 kl 10 ((S15.1 kl 10) + 0)) (fun S18 => Q S18)) ∧ (v11 = (S15.1 kl 9) → sn_lt (sn_pI S15 kl 10 ((S15.1 kl 10) + 1)) (fun S19 => Q S19)))))) (fun (k16 : sn_S → Prop) => ((v13 = 0 → k16 S) ∧ (¬ v13 = 0 → sn_lt (sn_pI S kl 8 v10) (fun S20 => sn_lt (sn_pI S20 kl 9 v11) (fun S21 => sn_lt (sn_pI S21 kl 10 0) (fun S22 => (sn_cp 0 0 5 5 5 ∧ sn_lt (sn_pA S22 (kl + 3) (va_cpy (S22.1 (kl + 2)) (S22.1 (kl + 3)) (0 : Int32).toNatClampNeg (0 : Int32).toNatClampNeg (5 : Int32).toNatClampNeg)) (fun S23 => k16 S23))))))))) (fun (k14 : Int32 → Prop) => sn_jn (κ := Prop) (k14 1) (fun (k24 : Prop) => (((S.1 kl 10) = 0 → k24) ∧ (¬ (S.1 kl 10) = 0 → (((S.1 kl 8) < v10 → k24) ∧ (¬ (S.1 kl 8) < v10 → sn_jn (κ := Prop) (k14 0) (fun (k25 : Prop) => ((¬ v10 = (S.1 kl 8) → k25) ∧ (v10 = (S.1 kl 8) → (((S.1 kl 9) ≤ v11 → k25) ∧ (¬ (S.1 kl 9) ≤ v11 → k24)))))))))))) (fun (k12 : Int32 → Int32 → Prop) => sn_lp3 (fun (rc29 : Int32 → Int32 → Int32 → Prop) (i26 : Int32) (i27 : Int32) (i28 : Int32) => (((S.1 2 8) ≤ i28 → k12 i26 i27) ∧ (¬ (S.1 2 8) ≤ i28 → wpX0_isOf w (S.1 kl 7) i28 (fun (r30 : Int32) => sn_jn (fun (v31 : Int32) (v32 : Int32) => rc29 v31 v32 (i28 + 1)) (fun (k33 : Int32 → Int32 → Prop) => ((r30 = 0 → k33 i26 i27) ∧ (¬ r30 = 0 → (vp_in i28 6 ∧ ((¬ (S.1 (k1w + 2) (i28).toNatClampNeg) = (-1) → (vp_in i28 6 ∧ sn_lt (i27 + (S.1 (k1w + 2) (i28).toNatClampNeg)) (fun x34 => k33 (i26 + 1) x34))) ∧ ((S.1 (k1w + 2) (i28).toNatClampNeg) = (-1) → k33 i26 i27)))))))))) 0 0 0)
theorem wkX5_ends {w : sn_W} {C : sn_C} (hO : sn_Ok LoX w C RX5 cX5_ends 5 none [] "ends") (kl : Nat) (k1w : Nat) (S : sn_S) (hkl : isL kl = true) (hk1 : isW k1w = true) (Q : sn_S → Prop) : wpX5_ends w kl k1w S Q → sn_G LoX w rmX5_ends (sn_qV Q) sn_noE C 0 0 0 [(0, .ref (w.2.2.1 kl)), (1, .ref (w.2.2.1 k1w))] [] S := by
  unfold wpX5_ends
  generalize hQq : (sn_qV Q) = Qq
  refine sn_iconst hO kc_0 dX5_ends_0 ?_
  refine sn_istore_n hO (lv' := [(2, .int 0), (0, .ref (w.2.2.1 kl)), (1, .ref (w.2.2.1 k1w))]) (by decide) rfl dX5_ends_1 ?_
  refine sn_iconst hO kc_0 dX5_ends_2 ?_
  refine sn_istore_n hO (lv' := [(3, .int 0), (2, .int 0), (0, .ref (w.2.2.1 kl)), (1, .ref (w.2.2.1 k1w))]) (by decide) rfl dX5_ends_3 ?_
  refine sn_iconst hO kc_0 dX5_ends_4 ?_
  refine sn_istore hO (lv' := [(4, .int 0), (3, .int 0), (2, .int 0), (0, .ref (w.2.2.1 kl)), (1, .ref (w.2.2.1 k1w))]) (by decide) rfl dX5_ends_5 ?_
  refine sn_jn_walk (fun (k : Int32 → Int32 → Prop) => ∀ (v10 : Int32) (v11 : Int32), k v10 v11 → sn_G LoX w rmX5_ends Qq sn_noE C 0 0 67 [(0, .ref (w.2.2.1 kl)), (2, .int v10), (3, .int v11)] [] S) ?_ ?_
  · intro v10 v11
    refine sn_aload_n hO 0 rfl dX5_ends_67 ?_
    refine sn_getI hO (fX5_50 kl) (atL0 (k := kl) hkl) dX5_ends_68 ?_
    refine sn_jn_walk (fun (k : Int32 → Prop) => ∀ (v13 : Int32), k v13 → sn_G LoX w rmX5_ends Qq sn_noE C 0 0 103 [(0, .ref (w.2.2.1 kl)), (2, .int v10), (3, .int v11)] [.int v13] S) ?_ ?_
    · intro v13
      refine sn_istore hO (lv' := [(4, .int v13), (0, .ref (w.2.2.1 kl)), (2, .int v10), (3, .int v11)]) (by decide) rfl dX5_ends_103 ?_
      refine sn_iload hO 0 rfl dX5_ends_105 ?_
      refine sn_jn_walk (fun (k : sn_S → Prop) => ∀ (S15 : sn_S), k S15 → sn_G LoX w rmX5_ends Qq sn_noE C 0 0 139 [(0, .ref (w.2.2.1 kl)), (2, .int v10), (3, .int v11)] [] S15) ?_ ?_
      · intro S15
        refine sn_aload_n hO 0 rfl dX5_ends_139 ?_
        refine sn_dup hO rfl dX5_ends_140 ?_
        refine sn_getI hO (fX5_50 kl) (atL0 (k := kl) hkl) dX5_ends_141 ?_
        refine sn_iload_n hO 1 rfl dX5_ends_144 ?_
        refine sn_aload_n hO 0 rfl dX5_ends_145 ?_
        refine sn_getI hO (fX5_91 kl) (atL0 (k := kl) hkl) dX5_ends_146 ?_
        refine sn_icmp_ne hO 164 (by decide) dX5_ends_149 ?_ ?_
        · refine sn_iconst hO kc_0 dX5_ends_164 ?_
          refine sn_iadd hO dX5_ends_165 ?_
          refine sn_putI hO (fX5_50 kl) (atL0 (k := kl) hkl) rfl rfl dX5_ends_166 ?_
          refine sn_nmS (fun S17 => ?_)
          subst hQq
          exact sn_vret hO rfl dX5_ends_169
        · refine sn_iload_n hO 2 rfl dX5_ends_152 ?_
          refine sn_aload_n hO 0 rfl dX5_ends_153 ?_
          refine sn_getI hO (fX5_94 kl) (atL0 (k := kl) hkl) dX5_ends_154 ?_
          refine sn_icmp_ne hO 164 (by decide) dX5_ends_157 ?_ ?_
          · refine sn_iconst hO kc_0 dX5_ends_164 ?_
            refine sn_iadd hO dX5_ends_165 ?_
            refine sn_putI hO (fX5_50 kl) (atL0 (k := kl) hkl) rfl rfl dX5_ends_166 ?_
            refine sn_nmS (fun S18 => ?_)
            subst hQq
            exact sn_vret hO rfl dX5_ends_169
          · refine sn_iconst hO kc_1 dX5_ends_160 ?_
            refine sn_goto hO 165 (by decide) dX5_ends_161 ?_
            refine sn_iadd hO dX5_ends_165 ?_
            refine sn_putI hO (fX5_50 kl) (atL0 (k := kl) hkl) rfl rfl dX5_ends_166 ?_
            refine sn_nmS (fun S19 => ?_)
            subst hQq
            exact sn_vret hO rfl dX5_ends_169
      · intro k16 hk16
        refine sn_if_eq hO 139 (by decide) dX5_ends_107 ?_ ?_
        · refine sn_sub [1, 2, 3] rfl ?_
          exact hk16 _
        · refine sn_aload_n hO 1 rfl dX5_ends_110 ?_
          refine sn_iload_n hO 2 rfl dX5_ends_111 ?_
          refine sn_putI hO (fX5_91 kl) (atL0 (k := kl) hkl) rfl rfl dX5_ends_112 ?_
          refine sn_nmS (fun S20 => ?_)
          refine sn_aload_n hO 1 rfl dX5_ends_115 ?_
          refine sn_iload_n hO 3 rfl dX5_ends_116 ?_
          refine sn_putI hO (fX5_94 kl) (atL0 (k := kl) hkl) rfl rfl dX5_ends_117 ?_
          refine sn_nmS (fun S21 => ?_)
          refine sn_aload_n hO 1 rfl dX5_ends_120 ?_
          refine sn_iconst hO kc_0 dX5_ends_121 ?_
          refine sn_putI hO (fX5_50 kl) (atL0 (k := kl) hkl) rfl rfl dX5_ends_122 ?_
          refine sn_nmS (fun S22 => ?_)
          refine sn_aload_n hO 1 rfl dX5_ends_125 ?_
          refine sn_getF hO (fX5_24 kl) (atL0 (k := kl) hkl) dX5_ends_126 ?_
          refine sn_iconst hO kc_0 dX5_ends_129 ?_
          refine sn_aload_n hO 1 rfl dX5_ends_130 ?_
          refine sn_getF hO (fX5_28 kl) (atL0 (k := kl) hkl) dX5_ends_131 ?_
          refine sn_iconst hO kc_0 dX5_ends_134 ?_
          refine sn_iconst hO kc_5 dX5_ends_135 ?_
          refine sn_copyI hO (atL2 (k := kl) hkl) (atL3 (k := kl) hkl) rfl q1252 q594 q593 q136 ⟨Nat.le_of_ble_eq_true rfl, by decide⟩ dX5_ends_136 ?_
          refine sn_nmS (fun S23 => ?_)
          refine sn_sub [1, 2, 3] rfl ?_
          exact hk16 _
    · intro k14 hk14
      refine sn_jn_walk (fun (k : Prop) => k → sn_G LoX w rmX5_ends Qq sn_noE C 0 0 98 [(0, .ref (w.2.2.1 kl)), (2, .int v10), (3, .int v11)] [] S) ?_ ?_
      · refine sn_iconst hO kc_1 dX5_ends_98 ?_
        refine sn_goto hO 103 (by decide) dX5_ends_99 ?_
        exact hk14 _
      · intro k24 hk24
        refine sn_if_eq hO 98 (by decide) dX5_ends_71 ?_ ?_
        · exact hk24
        · refine sn_iload_n hO 1 rfl dX5_ends_74 ?_
          refine sn_aload_n hO 0 rfl dX5_ends_75 ?_
          refine sn_getI hO (fX5_91 kl) (atL0 (k := kl) hkl) dX5_ends_76 ?_
          refine sn_icmp_gt hO 98 (by decide) dX5_ends_79 ?_ ?_
          · exact hk24
          · refine sn_iload_n hO 1 rfl dX5_ends_82 ?_
            refine sn_aload_n hO 0 rfl dX5_ends_83 ?_
            refine sn_getI hO (fX5_91 kl) (atL0 (k := kl) hkl) dX5_ends_84 ?_
            refine sn_jn_walk (fun (k : Prop) => k → sn_G LoX w rmX5_ends Qq sn_noE C 0 0 102 [(0, .ref (w.2.2.1 kl)), (2, .int v10), (3, .int v11)] [] S) ?_ ?_
            · refine sn_iconst hO kc_0 dX5_ends_102 ?_
              exact hk14 _
            · intro k25 hk25
              refine sn_icmp_ne hO 102 (by decide) dX5_ends_87 ?_ ?_
              · exact hk25
              · refine sn_iload_n hO 2 rfl dX5_ends_90 ?_
                refine sn_aload_n hO 0 rfl dX5_ends_91 ?_
                refine sn_getI hO (fX5_94 kl) (atL0 (k := kl) hkl) dX5_ends_92 ?_
                refine sn_icmp_ge hO 102 (by decide) dX5_ends_95 ?_ ?_
                · exact hk25
                · exact hk24
  · intro k12 hk12
    refine sn_sub [3, 4, 2, 1, 0] rfl ?_
    refine sn_lp3_walk (Gd := fun (i26 : Int32) (i27 : Int32) (i28 : Int32) => sn_G LoX w rmX5_ends Qq sn_noE C 0 0 7 [(0, .ref (w.2.2.1 kl)), (1, .ref (w.2.2.1 k1w)), (2, .int i26), (3, .int i27), (4, .int i28)] [] S) ?_ _ _ _
    intro rc29 hrc29 i26 i27 i28
    refine sn_iload hO 4 rfl dX5_ends_7 ?_
    refine sn_aload_n hO 0 rfl dX5_ends_9 ?_
    refine sn_getF hO (fX5_3 kl) (atL0 (k := kl) hkl) dX5_ends_10 ?_
    refine sn_getFN hO fX5_64 atX_0 dX5_ends_13 ?_
    refine sn_getIN hO fX5_83 atX_2 dX5_ends_16 ?_
    refine sn_icmp_ge hO 67 (by decide) dX5_ends_19 ?_ ?_
    · refine sn_sub [0, 2, 3] rfl ?_
      exact hk12 _ _
    · refine sn_aload_n hO 0 rfl dX5_ends_22 ?_
      refine sn_getI hO (fX5_47 kl) (atL0 (k := kl) hkl) dX5_ends_23 ?_
      refine sn_iload hO 4 rfl dX5_ends_26 ?_
      refine sn_callSN hO (c2 := 0) (s2 := 0) (rm := rmX0_isOf) [.int (S.1 kl 7), .int i28] csX5_84 (fun h => ctX0_isOf h) ⟨Nat.le_of_ble_eq_true rfl, Nat.le_of_ble_eq_true rfl⟩ rfl rfl (Nat.le_of_ble_eq_true rfl) ⟨Nat.le_of_ble_eq_true rfl, Nat.le_of_ble_eq_true rfl, rfl, rfl⟩ dX5_ends_28 (sn_bIp (fun r30 => ?_)) sn_x0
      refine sn_jn_walk (fun (k : Int32 → Int32 → Prop) => ∀ (v31 : Int32) (v32 : Int32), k v31 v32 → sn_G LoX w rmX5_ends Qq sn_noE C 0 0 61 [(0, .ref (w.2.2.1 kl)), (1, .ref (w.2.2.1 k1w)), (2, .int v31), (3, .int v32), (4, .int i28)] [] S) ?_ ?_
      · intro v31 v32
        refine sn_iinc hO (lv' := [(4, .int (i28 + 1)), (0, .ref (w.2.2.1 kl)), (1, .ref (w.2.2.1 k1w)), (2, .int v31), (3, .int v32)]) 4 rfl ki_1 (by decide) rfl dX5_ends_61 ?_
        refine sn_goto hO 7 (by decide) dX5_ends_64 ?_
        refine sn_sub [1, 2, 3, 4, 0] rfl ?_
        exact hrc29 _ _ _
      · intro k33 hk33
        refine sn_if_eq hO 61 (by decide) dX5_ends_31 ?_ ?_
        · exact hk33 _ _
        · refine sn_aload_n hO 1 rfl dX5_ends_34 ?_
          refine sn_getFN hO (fX5_88 k1w) (atW0 (k := k1w) hk1) dX5_ends_35 ?_
          refine sn_iload hO 4 rfl dX5_ends_38 ?_
          refine sn_iald hO (atW2 (k := k1w) hk1) rfl dX5_ends_40 ?_
          refine sn_iconst hO kc_m1 dX5_ends_41 ?_
          refine sn_icmp_ne hO 48 (by decide) dX5_ends_42 ?_ ?_
          · refine sn_iinc hO (lv' := [(2, .int (i26 + 1)), (0, .ref (w.2.2.1 kl)), (1, .ref (w.2.2.1 k1w)), (3, .int i27), (4, .int i28)]) 2 rfl ki_1 (by decide) rfl dX5_ends_48 ?_
            refine sn_iload_n hO 3 rfl dX5_ends_51 ?_
            refine sn_aload_n hO 2 rfl dX5_ends_52 ?_
            refine sn_getFN hO (fX5_88 k1w) (atW0 (k := k1w) hk1) dX5_ends_53 ?_
            refine sn_iload hO 4 rfl dX5_ends_56 ?_
            refine sn_iald hO (atW2 (k := k1w) hk1) rfl dX5_ends_58 ?_
            refine sn_iadd hO dX5_ends_59 ?_
            refine sn_nmI (fun x34 => ?_)
            refine sn_istore_n hO (lv' := [(3, .int x34), (2, .int (i26 + 1)), (0, .ref (w.2.2.1 kl)), (1, .ref (w.2.2.1 k1w)), (4, .int i28)]) (by decide) rfl dX5_ends_60 ?_
            refine sn_sub [2, 3, 1, 0, 4] rfl ?_
            exact hk33 _ _
          · refine sn_goto hO 61 (by decide) dX5_ends_45 ?_
            exact hk33 _ _
theorem ctX5_ends {w : sn_W} {kl : Nat} {k1w : Nat} (hkl : isL kl = true) (hk1 : isW k1w = true) {S : sn_S} {Q : sn_S → Prop} (h : wpX5_ends w kl k1w S Q) : sn_Ct LoX w yX5_ends (ws_ yX5_ends cX5_ends 5 none) rmX5_ends [.ref (w.2.2.1 kl), .ref (w.2.2.1 k1w)] S (sn_qV Q) sn_noE := sn_Ct_of (XX_O w) (by decide) (Nat.le_of_ble_eq_true rfl) RX5 rfl (fun C hO => wkX5_ends hO kl k1w S hkl hk1 Q h)
def rmX4_takes : Room := { frames := 1, cells := 0, slots := 0, locals := 64 }
/-- SnailPost$Walk.takes(LSnailPost$Walk;)V -/
def wpX4_takes (w : sn_W) (kw : Nat) (k1w : Nat) (S : sn_S) (Q : sn_S → Prop) : Prop :=
  (sn_cp 0 0 6 6 6 ∧ sn_lt (sn_pA S (kw + 1) (va_cpy (S.1 (k1w + 1)) (S.1 (kw + 1)) (0 : Int32).toNatClampNeg (0 : Int32).toNatClampNeg (6 : Int32).toNatClampNeg)) (fun S10 => (sn_cp 0 0 6 6 6 ∧ sn_lt (sn_pA S10 (kw + 2) (va_cpy (S10.1 (k1w + 2)) (S10.1 (kw + 2)) (0 : Int32).toNatClampNeg (0 : Int32).toNatClampNeg (6 : Int32).toNatClampNeg)) (fun S11 => (sn_cp 0 0 6 6 6 ∧ sn_lt (sn_pA S11 (kw + 3) (va_cpy (S11.1 (k1w + 3)) (S11.1 (kw + 3)) (0 : Int32).toNatClampNeg (0 : Int32).toNatClampNeg (6 : Int32).toNatClampNeg)) (fun S12 => (sn_cp 0 0 96 96 96 ∧ sn_lt (sn_pA S12 (kw + 4) (va_cpy (S12.1 (k1w + 4)) (S12.1 (kw + 4)) (0 : Int32).toNatClampNeg (0 : Int32).toNatClampNeg (96 : Int32).toNatClampNeg)) (fun S13 => sn_lt (sn_pI S13 kw 4 (S13.1 k1w 4)) (fun S14 => Q S14)))))))))
theorem wkX4_takes {w : sn_W} {C : sn_C} (hO : sn_Ok LoX w C RX4 cX4_takes 2 none [] "takes") (kw : Nat) (k1w : Nat) (S : sn_S) (hkw : isW kw = true) (hk1 : isW k1w = true) (Q : sn_S → Prop) : wpX4_takes w kw k1w S Q → sn_G LoX w rmX4_takes (sn_qV Q) sn_noE C 0 0 0 [(0, .ref (w.2.2.1 kw)), (1, .ref (w.2.2.1 k1w))] [] S := by
  unfold wpX4_takes
  generalize hQq : (sn_qV Q) = Qq
  refine sn_aload_n hO 1 rfl dX4_takes_0 ?_
  refine sn_getF hO (fX4_15 k1w) (atW0 (k := k1w) hk1) dX4_takes_1 ?_
  refine sn_iconst hO kc_0 dX4_takes_4 ?_
  refine sn_aload_n hO 0 rfl dX4_takes_5 ?_
  refine sn_getF hO (fX4_15 kw) (atW0 (k := kw) hkw) dX4_takes_6 ?_
  refine sn_iconst hO kc_0 dX4_takes_9 ?_
  refine sn_bipush hO kb_6 dX4_takes_10 ?_
  refine sn_copyI hO (atW1 (k := k1w) hk1) (atW1 (k := kw) hkw) rfl q1261 q594 q593 q136 ⟨Nat.le_of_ble_eq_true rfl, by decide⟩ dX4_takes_12 ?_
  refine sn_nmS (fun S10 => ?_)
  refine sn_aload_n hO 1 rfl dX4_takes_15 ?_
  refine sn_getF hO (fX4_19 k1w) (atW0 (k := k1w) hk1) dX4_takes_16 ?_
  refine sn_iconst hO kc_0 dX4_takes_19 ?_
  refine sn_aload_n hO 0 rfl dX4_takes_20 ?_
  refine sn_getF hO (fX4_19 kw) (atW0 (k := kw) hkw) dX4_takes_21 ?_
  refine sn_iconst hO kc_0 dX4_takes_24 ?_
  refine sn_bipush hO kb_6 dX4_takes_25 ?_
  refine sn_copyI hO (atW2 (k := k1w) hk1) (atW2 (k := kw) hkw) rfl q1261 q594 q593 q136 ⟨Nat.le_of_ble_eq_true rfl, by decide⟩ dX4_takes_27 ?_
  refine sn_nmS (fun S11 => ?_)
  refine sn_aload_n hO 1 rfl dX4_takes_30 ?_
  refine sn_getF hO (fX4_22 k1w) (atW0 (k := k1w) hk1) dX4_takes_31 ?_
  refine sn_iconst hO kc_0 dX4_takes_34 ?_
  refine sn_aload_n hO 0 rfl dX4_takes_35 ?_
  refine sn_getF hO (fX4_22 kw) (atW0 (k := kw) hkw) dX4_takes_36 ?_
  refine sn_iconst hO kc_0 dX4_takes_39 ?_
  refine sn_bipush hO kb_6 dX4_takes_40 ?_
  refine sn_copyI hO (atW3 (k := k1w) hk1) (atW3 (k := kw) hkw) rfl q1261 q594 q593 q136 ⟨Nat.le_of_ble_eq_true rfl, by decide⟩ dX4_takes_42 ?_
  refine sn_nmS (fun S12 => ?_)
  refine sn_aload_n hO 1 rfl dX4_takes_45 ?_
  refine sn_getF hO (fX4_25 k1w) (atW0 (k := k1w) hk1) dX4_takes_46 ?_
  refine sn_iconst hO kc_0 dX4_takes_49 ?_
  refine sn_aload_n hO 0 rfl dX4_takes_50 ?_
  refine sn_getF hO (fX4_25 kw) (atW0 (k := kw) hkw) dX4_takes_51 ?_
  refine sn_iconst hO kc_0 dX4_takes_54 ?_
  refine sn_bipush hO kb_96 dX4_takes_55 ?_
  refine sn_copyI hO (atW4 (k := k1w) hk1) (atW4 (k := kw) hkw) rfl q1261 q594 q593 q136 ⟨Nat.le_of_ble_eq_true rfl, by decide⟩ dX4_takes_57 ?_
  refine sn_nmS (fun S13 => ?_)
  refine sn_aload_n hO 0 rfl dX4_takes_60 ?_
  refine sn_aload_n hO 1 rfl dX4_takes_61 ?_
  refine sn_getI hO (fX4_28 k1w) (atW0 (k := k1w) hk1) dX4_takes_62 ?_
  refine sn_putI hO (fX4_28 kw) (atW0 (k := kw) hkw) rfl rfl dX4_takes_65 ?_
  refine sn_nmS (fun S14 => ?_)
  subst hQq
  exact sn_vret hO rfl dX4_takes_68
theorem ctX4_takes {w : sn_W} {kw : Nat} {k1w : Nat} (hkw : isW kw = true) (hk1 : isW k1w = true) {S : sn_S} {Q : sn_S → Prop} (h : wpX4_takes w kw k1w S Q) : sn_Ct LoX w yX4_takes (ws_ yX4_takes cX4_takes 2 none) rmX4_takes [.ref (w.2.2.1 kw), .ref (w.2.2.1 k1w)] S (sn_qV Q) sn_noE := sn_Ct_of (XX_O w) (by decide) (Nat.le_of_ble_eq_true rfl) RX4 rfl (fun C hO => wkX4_takes hO kw k1w S hkw hk1 Q h)
def rmX4_hour : Room := { frames := 264, cells := 0, slots := 0, locals := 13009 }
/-- SnailPost$Walk.hour(II)V -/
def wpX4_hour (w : sn_W) (kw : Nat) (p1 : Int32) (p2 : Int32) (S : sn_S) (Q : sn_S → Prop) : Prop :=
  sn_lt (12 * p1) (fun x10 => sn_lp2 (fun (rc13 : Int32 → sn_S → Prop) (i11 : Int32) (S12 : sn_S) => ((((12 * p1) + 12) ≤ i11 → Q S12) ∧ (¬ ((12 * p1) + 12) ≤ i11 → wpX4_minute w kw i11 p2 S12 (fun (S14 : sn_S) => rc13 (i11 + 1) S14)))) x10 S)
theorem wkX4_hour {w : sn_W} {C : sn_C} (hO : sn_Ok LoX w C RX4 cX4_hour 4 none [] "hour") (kw : Nat) (p1 : Int32) (p2 : Int32) (S : sn_S) (hkw : isW kw = true) (Q : sn_S → Prop) : wpX4_hour w kw p1 p2 S Q → sn_G LoX w rmX4_hour (sn_qV Q) sn_noE C 0 0 0 [(0, .ref (w.2.2.1 kw)), (1, .int p1), (2, .int p2)] [] S := by
  unfold wpX4_hour
  generalize hQq : (sn_qV Q) = Qq
  refine sn_bipush hO kb_12 dX4_hour_0 ?_
  refine sn_iload_n hO 1 rfl dX4_hour_2 ?_
  refine sn_imul hO dX4_hour_3 ?_
  refine sn_nmI (fun x10 => ?_)
  refine sn_istore_n hO (lv' := [(3, .int x10), (0, .ref (w.2.2.1 kw)), (1, .int p1), (2, .int p2)]) (by decide) rfl dX4_hour_4 ?_
  refine sn_sub [1, 2, 3, 0] rfl ?_
  refine sn_lp2_walk (Gd := fun (i11 : Int32) (S12 : sn_S) => sn_G LoX w rmX4_hour Qq sn_noE C 0 0 5 [(0, .ref (w.2.2.1 kw)), (1, .int p1), (2, .int p2), (3, .int i11)] [] S12) ?_ _ _
  intro rc13 hrc13 i11 S12
  refine sn_iload_n hO 3 rfl dX4_hour_5 ?_
  refine sn_bipush hO kb_12 dX4_hour_6 ?_
  refine sn_iload_n hO 1 rfl dX4_hour_8 ?_
  refine sn_imul hO dX4_hour_9 ?_
  refine sn_bipush hO kb_12 dX4_hour_10 ?_
  refine sn_iadd hO dX4_hour_12 ?_
  refine sn_icmp_ge hO 28 (by decide) dX4_hour_13 ?_ ?_
  · subst hQq
    exact sn_vret hO rfl dX4_hour_28
  · refine sn_aload_n hO 0 rfl dX4_hour_16 ?_
    refine sn_iload_n hO 3 rfl dX4_hour_17 ?_
    refine sn_iload_n hO 2 rfl dX4_hour_18 ?_
    refine sn_callV hO (c2 := 0) (s2 := 0) (rm := rmX4_minute) [.int i11, .int p2] cvX4_137 (fun _ => sn_Rv_K (atW0 (k := kw) hkw)) (fun h => ctX4_minute hkw h) ⟨Nat.le_of_ble_eq_true rfl, Nat.le_of_ble_eq_true rfl⟩ rfl rfl (Nat.le_of_ble_eq_true rfl) ⟨Nat.le_of_ble_eq_true rfl, Nat.le_of_ble_eq_true rfl, rfl, rfl⟩ dX4_hour_19 (sn_bV (fun S14 => ?_)) sn_x0
    refine sn_iinc hO (lv' := [(3, .int (i11 + 1)), (0, .ref (w.2.2.1 kw)), (1, .int p1), (2, .int p2)]) 3 rfl ki_1 (by decide) rfl dX4_hour_22 ?_
    refine sn_goto hO 5 (by decide) dX4_hour_25 ?_
    refine sn_sub [1, 2, 3, 0] rfl ?_
    exact hrc13 _ _
theorem ctX4_hour {w : sn_W} {kw : Nat} {p1 : Int32} {p2 : Int32} (hkw : isW kw = true) {S : sn_S} {Q : sn_S → Prop} (h : wpX4_hour w kw p1 p2 S Q) : sn_Ct LoX w yX4_hour (ws_ yX4_hour cX4_hour 4 none) rmX4_hour [.ref (w.2.2.1 kw), .int p1, .int p2] S (sn_qV Q) sn_noE := sn_Ct_of (XX_O w) (by decide) (Nat.le_of_ble_eq_true rfl) RX4 rfl (fun C hO => wkX4_hour hO kw p1 p2 S hkw Q h)
def rmX5_goes : Room := { frames := 265, cells := 0, slots := 0, locals := 13032 }
/-- SnailPost$Lantern.goes(II)V -/
def wpX5_goes (w : sn_W) (kl : Nat) (p1 : Int32) (p2 : Int32) (S : sn_S) (Q : sn_S → Prop) : Prop :=
  (vp_in (p1 + 1) 6 ∧ isW ((kl + 4) + 5 * ((p1 + 1)).toNatClampNeg) = true ∧ sn_lt ((kl + 4) + 5 * ((p1 + 1)).toNatClampNeg) (fun kx10 => (vp_in p1 6 ∧ isW ((kl + 4) + 5 * (p1).toNatClampNeg) = true ∧ sn_lt ((kl + 4) + 5 * (p1).toNatClampNeg) (fun kx11 => wpX4_takes w kx10 kx11 S (fun (S12 : sn_S) => (vp_in (p1 + 1) 6 ∧ isW ((kl + 4) + 5 * ((p1 + 1)).toNatClampNeg) = true ∧ sn_lt ((kl + 4) + 5 * ((p1 + 1)).toNatClampNeg) (fun kx13 => wpX4_hour w kx13 p1 p2 S12 (fun (S14 : sn_S) => Q S14))))))))
theorem wkX5_goes {w : sn_W} {C : sn_C} (hO : sn_Ok LoX w C RX5 cX5_goes 3 none [] "goes") (kl : Nat) (p1 : Int32) (p2 : Int32) (S : sn_S) (hkl : isL kl = true) (Q : sn_S → Prop) : wpX5_goes w kl p1 p2 S Q → sn_G LoX w rmX5_goes (sn_qV Q) sn_noE C 0 0 0 [(0, .ref (w.2.2.1 kl)), (1, .int p1), (2, .int p2)] [] S := by
  unfold wpX5_goes
  generalize hQq : (sn_qV Q) = Qq
  refine sn_aload_n hO 0 rfl dX5_goes_0 ?_
  refine sn_getF hO (fX5_20 kl) (atL0 (k := kl) hkl) dX5_goes_1 ?_
  refine sn_iload_n hO 1 rfl dX5_goes_4 ?_
  refine sn_iconst hO kc_1 dX5_goes_5 ?_
  refine sn_iadd hO dX5_goes_6 ?_
  refine sn_aaldW (isK := isW) (j := (kl + 4)) hO (atL1 (k := kl) hkl) rfl dX5_goes_7 (fun kx10 hkx10 => ?_)
  refine sn_aload_n hO 0 rfl dX5_goes_8 ?_
  refine sn_getF hO (fX5_20 kl) (atL0 (k := kl) hkl) dX5_goes_9 ?_
  refine sn_iload_n hO 1 rfl dX5_goes_12 ?_
  refine sn_aaldW (isK := isW) (j := (kl + 4)) hO (atL1 (k := kl) hkl) rfl dX5_goes_13 (fun kx11 hkx11 => ?_)
  refine sn_callV hO (c2 := 0) (s2 := 0) (rm := rmX4_takes) [.ref (w.2.2.1 kx11)] cvX5_77 (fun _ => sn_Rv_K (atW0 (k := kx10) hkx10)) (fun h => ctX4_takes hkx10 hkx11 h) ⟨Nat.le_of_ble_eq_true rfl, Nat.le_of_ble_eq_true rfl⟩ rfl rfl (Nat.le_of_ble_eq_true rfl) ⟨Nat.le_of_ble_eq_true rfl, Nat.le_of_ble_eq_true rfl, rfl, rfl⟩ dX5_goes_14 (sn_bV (fun S12 => ?_)) sn_x0
  refine sn_aload_n hO 0 rfl dX5_goes_17 ?_
  refine sn_getF hO (fX5_20 kl) (atL0 (k := kl) hkl) dX5_goes_18 ?_
  refine sn_iload_n hO 1 rfl dX5_goes_21 ?_
  refine sn_iconst hO kc_1 dX5_goes_22 ?_
  refine sn_iadd hO dX5_goes_23 ?_
  refine sn_aaldW (isK := isW) (j := (kl + 4)) hO (atL1 (k := kl) hkl) rfl dX5_goes_24 (fun kx13 hkx13 => ?_)
  refine sn_iload_n hO 1 rfl dX5_goes_25 ?_
  refine sn_iload_n hO 2 rfl dX5_goes_26 ?_
  refine sn_callV hO (c2 := 0) (s2 := 0) (rm := rmX4_hour) [.int p1, .int p2] cvX5_80 (fun _ => sn_Rv_K (atW0 (k := kx13) hkx13)) (fun h => ctX4_hour hkx13 h) ⟨Nat.le_of_ble_eq_true rfl, Nat.le_of_ble_eq_true rfl⟩ rfl rfl (Nat.le_of_ble_eq_true rfl) ⟨Nat.le_of_ble_eq_true rfl, Nat.le_of_ble_eq_true rfl, rfl, rfl⟩ dX5_goes_27 (sn_bV (fun S14 => ?_)) sn_x0
  subst hQq
  exact sn_vret hO rfl dX5_goes_30
theorem ctX5_goes {w : sn_W} {kl : Nat} {p1 : Int32} {p2 : Int32} (hkl : isL kl = true) {S : sn_S} {Q : sn_S → Prop} (h : wpX5_goes w kl p1 p2 S Q) : sn_Ct LoX w yX5_goes (ws_ yX5_goes cX5_goes 3 none) rmX5_goes [.ref (w.2.2.1 kl), .int p1, .int p2] S (sn_qV Q) sn_noE := sn_Ct_of (XX_O w) (by decide) (Nat.le_of_ble_eq_true rfl) RX5 rfl (fun C hO => wkX5_goes hO kl p1 p2 S hkl Q h)
def rmX5_tries (d : Nat) : Room := { frames := 2 * d + 266, cells := 0, slots := 0, locals := 100 * d + 13054 }
def okX5_tries (w : sn_W) (d : Nat) (self : Nat → Int32 → sn_S → (sn_S → Prop) → Prop) : Prop := ∀ (kl : Nat) (p1 : Int32) (S : sn_S) (Q : sn_S → Prop), isL kl = true → self kl p1 S Q → sn_Ct LoX w yX5_tries (ws_ yX5_tries cX5_tries 3 none) (rmX5_tries d) [.ref (w.2.2.1 kl), .int p1] S (sn_qV Q) sn_noE
theorem okX5_tries.use {w : sn_W} {d : Nat} {self : Nat → Int32 → sn_S → (sn_S → Prop) → Prop} (hself : okX5_tries w d self) {kl : Nat} {p1 : Int32} (hkl : isL kl = true) {S : sn_S} {Q : sn_S → Prop} (h : self kl p1 S Q) : sn_Ct LoX w yX5_tries (ws_ yX5_tries cX5_tries 3 none) (rmX5_tries d) [.ref (w.2.2.1 kl), .int p1] S (sn_qV Q) sn_noE := hself _ _ _ Q hkl h
/-- SnailPost$Lantern.tries(I)V -/
def wpX5_triesF (w : sn_W) (self : Nat → Int32 → sn_S → (sn_S → Prop) → Prop) (kl : Nat) (p1 : Int32) (S : sn_S) (Q : sn_S → Prop) : Prop :=
  ((¬ p1 = (S.1 kl 6) → sn_lp2 (fun (rc12 : Int32 → sn_S → Prop) (i10 : Int32) (S11 : sn_S) => (((S11.1 2 9) ≤ i10 → Q S11) ∧ (¬ (S11.1 2 9) ≤ i10 → (vp_in p1 5 ∧ sn_lt (sn_pI S11 (kl + 2) (p1).toNatClampNeg i10) (fun S13 => wpX5_goes w kl p1 i10 S13 (fun (S14 : sn_S) => self kl (p1 + 1) S14 (fun (S15 : sn_S) => rc12 (i10 + 1) S15))))))) (-1) S) ∧ (p1 = (S.1 kl 6) → (vp_in p1 6 ∧ isW ((kl + 4) + 5 * (p1).toNatClampNeg) = true ∧ sn_lt ((kl + 4) + 5 * (p1).toNatClampNeg) (fun kx16 => wpX5_ends w kl kx16 S (fun (S17 : sn_S) => Q S17)))))
theorem wkX5_tries {w : sn_W} {C : sn_C} {d : Nat} {self : Nat → Int32 → sn_S → (sn_S → Prop) → Prop} (hself : okX5_tries w d self) (hO : sn_Ok LoX w C RX5 cX5_tries 3 none [] "tries") (kl : Nat) (p1 : Int32) (S : sn_S) (hkl : isL kl = true) (Q : sn_S → Prop) : wpX5_triesF w self kl p1 S Q → sn_G LoX w (rmX5_tries (d + 1)) (sn_qV Q) sn_noE C 0 0 0 [(0, .ref (w.2.2.1 kl)), (1, .int p1)] [] S := by
  unfold wpX5_triesF
  generalize hQq : (sn_qV Q) = Qq
  refine sn_iload_n hO 1 rfl dX5_tries_0 ?_
  refine sn_aload_n hO 0 rfl dX5_tries_1 ?_
  refine sn_getI hO (fX5_44 kl) (atL0 (k := kl) hkl) dX5_tries_2 ?_
  refine sn_icmp_ne hO 19 (by decide) dX5_tries_5 ?_ ?_
  · refine sn_iconst hO kc_m1 dX5_tries_19 ?_
    refine sn_istore_n hO (lv' := [(2, .int (-1)), (0, .ref (w.2.2.1 kl)), (1, .int p1)]) (by decide) rfl dX5_tries_20 ?_
    refine sn_sub [1, 2, 0] rfl ?_
    refine sn_lp2_walk (Gd := fun (i10 : Int32) (S11 : sn_S) => sn_G LoX w (rmX5_tries (d + 1)) Qq sn_noE C 0 0 21 [(0, .ref (w.2.2.1 kl)), (1, .int p1), (2, .int i10)] [] S11) ?_ _ _
    intro rc12 hrc12 i10 S11
    refine sn_iload_n hO 2 rfl dX5_tries_21 ?_
    refine sn_aload_n hO 0 rfl dX5_tries_22 ?_
    refine sn_getF hO (fX5_3 kl) (atL0 (k := kl) hkl) dX5_tries_23 ?_
    refine sn_getFN hO fX5_64 atX_0 dX5_tries_26 ?_
    refine sn_getIN hO fX5_68 atX_2 dX5_tries_29 ?_
    refine sn_icmp_ge hO 61 (by decide) dX5_tries_32 ?_ ?_
    · subst hQq
      exact sn_vret hO rfl dX5_tries_61
    · refine sn_aload_n hO 0 rfl dX5_tries_35 ?_
      refine sn_getF hO (fX5_24 kl) (atL0 (k := kl) hkl) dX5_tries_36 ?_
      refine sn_iload_n hO 1 rfl dX5_tries_39 ?_
      refine sn_iload_n hO 2 rfl dX5_tries_40 ?_
      refine sn_iast hO (atL2 (k := kl) hkl) rfl dX5_tries_41 ?_
      refine sn_nmS (fun S13 => ?_)
      refine sn_aload_n hO 0 rfl dX5_tries_42 ?_
      refine sn_iload_n hO 1 rfl dX5_tries_43 ?_
      refine sn_iload_n hO 2 rfl dX5_tries_44 ?_
      refine sn_callV hO (c2 := 0) (s2 := 0) (rm := rmX5_goes) [.int p1, .int i10] cvX5_73 (fun _ => sn_Rv_K (atL0 (k := kl) hkl)) (fun h => ctX5_goes hkl h) ⟨by simp only [rmX5_goes, rmX5_tries]; omega, by simp only [rmX5_goes, rmX5_tries]; omega⟩ rfl rfl (Nat.le_of_ble_eq_true rfl) ⟨Nat.le_of_ble_eq_true rfl, Nat.le_of_ble_eq_true rfl, rfl, rfl⟩ dX5_tries_45 (sn_bV (fun S14 => ?_)) sn_x0
      refine sn_aload_n hO 0 rfl dX5_tries_48 ?_
      refine sn_iload_n hO 1 rfl dX5_tries_49 ?_
      refine sn_iconst hO kc_1 dX5_tries_50 ?_
      refine sn_iadd hO dX5_tries_51 ?_
      refine sn_callV hO (c2 := 0) (s2 := 0) (rm := (rmX5_tries d)) [.int (p1 + 1)] cvX5_56 (fun _ => sn_Rv_K (atL0 (k := kl) hkl)) (fun h => okX5_tries.use hself hkl h) ⟨by simp only [rmX5_tries]; omega, by simp only [rmX5_tries]; omega⟩ rfl rfl (Nat.le_of_ble_eq_true rfl) ⟨Nat.le_of_ble_eq_true rfl, Nat.le_of_ble_eq_true rfl, rfl, rfl⟩ dX5_tries_52 (sn_bV (fun S15 => ?_)) sn_x0
      refine sn_iinc hO (lv' := [(2, .int (i10 + 1)), (0, .ref (w.2.2.1 kl)), (1, .int p1)]) 2 rfl ki_1 (by decide) rfl dX5_tries_55 ?_
      refine sn_goto hO 21 (by decide) dX5_tries_58 ?_
      refine sn_sub [1, 2, 0] rfl ?_
      exact hrc12 _ _
  · refine sn_aload_n hO 0 rfl dX5_tries_8 ?_
    refine sn_aload_n hO 0 rfl dX5_tries_9 ?_
    refine sn_getF hO (fX5_20 kl) (atL0 (k := kl) hkl) dX5_tries_10 ?_
    refine sn_iload_n hO 1 rfl dX5_tries_13 ?_
    refine sn_aaldW (isK := isW) (j := (kl + 4)) hO (atL1 (k := kl) hkl) rfl dX5_tries_14 (fun kx16 hkx16 => ?_)
    refine sn_callV hO (c2 := 0) (s2 := 0) (rm := rmX5_ends) [.ref (w.2.2.1 kx16)] cvX5_60 (fun _ => sn_Rv_K (atL0 (k := kl) hkl)) (fun h => ctX5_ends hkl hkx16 h) ⟨by simp only [rmX5_ends, rmX5_tries]; omega, by simp only [rmX5_ends, rmX5_tries]; omega⟩ rfl rfl (Nat.le_of_ble_eq_true rfl) ⟨Nat.le_of_ble_eq_true rfl, Nat.le_of_ble_eq_true rfl, rfl, rfl⟩ dX5_tries_15 (sn_bV (fun S17 => ?_)) sn_x0
    subst hQq
    exact sn_vret hO rfl dX5_tries_18
def wpX5_tries (w : sn_W) : Nat → Nat → Int32 → sn_S → (sn_S → Prop) → Prop
  | 0 => fun _ _ _ _ => False
  | d + 1 => wpX5_triesF w (wpX5_tries w d)
theorem okX5_tries_all {w : sn_W} : ∀ d : Nat, okX5_tries w d (wpX5_tries w d)
  | 0 => fun _ _ _ _ _ => fun h => h.elim
  | d + 1 => fun kl p1 S Q hkl h => sn_Ct_of (XX_O w) (by decide) (Nat.le_of_ble_eq_true rfl) RX5 rfl (fun C hO => wkX5_tries (okX5_tries_all d) hO kl p1 S hkl Q h)
theorem ctX5_tries {w : sn_W} (d : Nat) {kl : Nat} {p1 : Int32} (hkl : isL kl = true) {S : sn_S} {Q : sn_S → Prop} (h : wpX5_tries w d kl p1 S Q) : sn_Ct LoX w yX5_tries (ws_ yX5_tries cX5_tries 3 none) (rmX5_tries d) [.ref (w.2.2.1 kl), .int p1] S (sn_qV Q) sn_noE := okX5_tries_all d _ _ _ Q hkl h
def rmX5_looks : Room := { frames := 283, cells := 0, slots := 0, locals := 13876 }
/-- SnailPost$Lantern.looks(II)V -/
def wpX5_looks (w : sn_W) (kl : Nat) (p1 : Int32) (p2 : Int32) (S : sn_S) (Q : sn_S → Prop) : Prop :=
  sn_jn (κ := Prop) (sn_lt (sn_pI S kl 3 (S.1 0 8)) (fun S11 => sn_lt (sn_pI S11 kl 4 p1) (fun S12 => sn_lt (sn_pI S12 kl 5 p2) (fun S13 => sn_lt (sn_pI S13 kl 6 p1) (fun S14 => sn_lt (sn_pI S14 kl 7 p2) (fun S15 => sn_lt (sn_pI S15 kl 10 0) (fun S16 => (vp_in 0 6 ∧ isW ((kl + 4) + 5 * (0 : Int32).toNatClampNeg) = true ∧ sn_lt ((kl + 4) + 5 * (0 : Int32).toNatClampNeg) (fun kx17 => wpX4_begins w kx17 S16 (fun (S18 : sn_S) => wpX5_tries w 8 kl 0 S18 (fun (S19 : sn_S) => Q S19))))))))))) (fun (k10 : Prop) => ((¬ (S.1 kl 3) = (S.1 0 8) → k10) ∧ ((S.1 kl 3) = (S.1 0 8) → ((¬ (S.1 kl 4) = p1 → k10) ∧ ((S.1 kl 4) = p1 → ((¬ (S.1 kl 5) = p2 → k10) ∧ ((S.1 kl 5) = p2 → Q S)))))))
theorem wkX5_looks {w : sn_W} {C : sn_C} (hO : sn_Ok LoX w C RX5 cX5_looks 3 none [] "looks") (kl : Nat) (p1 : Int32) (p2 : Int32) (S : sn_S) (hkl : isL kl = true) (Q : sn_S → Prop) : wpX5_looks w kl p1 p2 S Q → sn_G LoX w rmX5_looks (sn_qV Q) sn_noE C 0 0 0 [(0, .ref (w.2.2.1 kl)), (1, .int p1), (2, .int p2)] [] S := by
  unfold wpX5_looks
  generalize hQq : (sn_qV Q) = Qq
  refine sn_aload_n hO 0 rfl dX5_looks_0 ?_
  refine sn_getI hO (fX5_31 kl) (atL0 (k := kl) hkl) dX5_looks_1 ?_
  refine sn_aload_n hO 0 rfl dX5_looks_4 ?_
  refine sn_getF hO (fX5_3 kl) (atL0 (k := kl) hkl) dX5_looks_5 ?_
  refine sn_getIN hO fX5_35 atX_0 dX5_looks_8 ?_
  refine sn_jn_walk (fun (k : Prop) => k → sn_G LoX w rmX5_looks Qq sn_noE C 0 0 31 [(0, .ref (w.2.2.1 kl)), (1, .int p1), (2, .int p2)] [] S) ?_ ?_
  · refine sn_aload_n hO 0 rfl dX5_looks_31 ?_
    refine sn_aload_n hO 0 rfl dX5_looks_32 ?_
    refine sn_getF hO (fX5_3 kl) (atL0 (k := kl) hkl) dX5_looks_33 ?_
    refine sn_getIN hO fX5_35 atX_0 dX5_looks_36 ?_
    refine sn_putI hO (fX5_31 kl) (atL0 (k := kl) hkl) rfl rfl dX5_looks_39 ?_
    refine sn_nmS (fun S11 => ?_)
    refine sn_aload_n hO 0 rfl dX5_looks_42 ?_
    refine sn_iload_n hO 1 rfl dX5_looks_43 ?_
    refine sn_putI hO (fX5_38 kl) (atL0 (k := kl) hkl) rfl rfl dX5_looks_44 ?_
    refine sn_nmS (fun S12 => ?_)
    refine sn_aload_n hO 0 rfl dX5_looks_47 ?_
    refine sn_iload_n hO 2 rfl dX5_looks_48 ?_
    refine sn_putI hO (fX5_41 kl) (atL0 (k := kl) hkl) rfl rfl dX5_looks_49 ?_
    refine sn_nmS (fun S13 => ?_)
    refine sn_aload_n hO 0 rfl dX5_looks_52 ?_
    refine sn_iload_n hO 1 rfl dX5_looks_53 ?_
    refine sn_putI hO (fX5_44 kl) (atL0 (k := kl) hkl) rfl rfl dX5_looks_54 ?_
    refine sn_nmS (fun S14 => ?_)
    refine sn_aload_n hO 0 rfl dX5_looks_57 ?_
    refine sn_iload_n hO 2 rfl dX5_looks_58 ?_
    refine sn_putI hO (fX5_47 kl) (atL0 (k := kl) hkl) rfl rfl dX5_looks_59 ?_
    refine sn_nmS (fun S15 => ?_)
    refine sn_aload_n hO 0 rfl dX5_looks_62 ?_
    refine sn_iconst hO kc_0 dX5_looks_63 ?_
    refine sn_putI hO (fX5_50 kl) (atL0 (k := kl) hkl) rfl rfl dX5_looks_64 ?_
    refine sn_nmS (fun S16 => ?_)
    refine sn_aload_n hO 0 rfl dX5_looks_67 ?_
    refine sn_getF hO (fX5_20 kl) (atL0 (k := kl) hkl) dX5_looks_68 ?_
    refine sn_iconst hO kc_0 dX5_looks_71 ?_
    refine sn_aaldW (isK := isW) (j := (kl + 4)) hO (atL1 (k := kl) hkl) rfl dX5_looks_72 (fun kx17 hkx17 => ?_)
    refine sn_callV hO (c2 := 0) (s2 := 0) (rm := rmX4_begins) [] cvX5_53 (fun _ => sn_Rv_K (atW0 (k := kx17) hkx17)) (fun h => ctX4_begins hkx17 h) ⟨Nat.le_of_ble_eq_true rfl, Nat.le_of_ble_eq_true rfl⟩ rfl rfl (Nat.le_of_ble_eq_true rfl) ⟨Nat.le_of_ble_eq_true rfl, Nat.le_of_ble_eq_true rfl, rfl, rfl⟩ dX5_looks_73 (sn_bV (fun S18 => ?_)) sn_x0
    refine sn_aload_n hO 0 rfl dX5_looks_76 ?_
    refine sn_iconst hO kc_0 dX5_looks_77 ?_
    refine sn_callV hO (c2 := 0) (s2 := 0) (rm := (rmX5_tries 8)) [.int 0] cvX5_56 (fun _ => sn_Rv_K (atL0 (k := kl) hkl)) (fun h => ctX5_tries 8 hkl h) ⟨Nat.le_of_ble_eq_true rfl, Nat.le_of_ble_eq_true rfl⟩ rfl rfl (Nat.le_of_ble_eq_true rfl) ⟨Nat.le_of_ble_eq_true rfl, Nat.le_of_ble_eq_true rfl, rfl, rfl⟩ dX5_looks_78 (sn_bV (fun S19 => ?_)) sn_x0
    subst hQq
    exact sn_vret hO rfl dX5_looks_81
  · intro k10 hk10
    refine sn_icmp_ne hO 31 (by decide) dX5_looks_11 ?_ ?_
    · exact hk10
    · refine sn_aload_n hO 0 rfl dX5_looks_14 ?_
      refine sn_getI hO (fX5_38 kl) (atL0 (k := kl) hkl) dX5_looks_15 ?_
      refine sn_iload_n hO 1 rfl dX5_looks_18 ?_
      refine sn_icmp_ne hO 31 (by decide) dX5_looks_19 ?_ ?_
      · exact hk10
      · refine sn_aload_n hO 0 rfl dX5_looks_22 ?_
        refine sn_getI hO (fX5_41 kl) (atL0 (k := kl) hkl) dX5_looks_23 ?_
        refine sn_iload_n hO 2 rfl dX5_looks_26 ?_
        refine sn_icmp_ne hO 31 (by decide) dX5_looks_27 ?_ ?_
        · exact hk10
        · subst hQq
          exact sn_vret hO rfl dX5_looks_30
theorem ctX5_looks {w : sn_W} {kl : Nat} {p1 : Int32} {p2 : Int32} (hkl : isL kl = true) {S : sn_S} {Q : sn_S → Prop} (h : wpX5_looks w kl p1 p2 S Q) : sn_Ct LoX w yX5_looks (ws_ yX5_looks cX5_looks 3 none) rmX5_looks [.ref (w.2.2.1 kl), .int p1, .int p2] S (sn_qV Q) sn_noE := sn_Ct_of (XX_O w) (by decide) (Nat.le_of_ble_eq_true rfl) RX5 rfl (fun C hO => wkX5_looks hO kl p1 p2 S hkl Q h)
def rmX0_best : Room := { frames := 284, cells := 0, slots := 0, locals := 13898 }
/-- SnailPost.best(III)I -/
def wpX0_best (w : sn_W) (p1 : Int32) (p2 : Int32) (p3 : Int32) (S : sn_S) (Q : Int32 → sn_S → Prop) : Prop :=
  wpX0_isBest w p1 p2 S (fun (r10 : Int32) => ((r10 = 0 → Q (-1) S) ∧ (¬ r10 = 0 → wpX0_in w p3 0 7 (fun (r11 : Int32) => ((¬ r11 = 0 → wpX5_looks w 22 p1 p2 S (fun (S12 : sn_S) => sn_sw p3 0 [Q (S12.1 22 8) S12, Q (S12.1 22 9) S12, Q (S12.1 22 10) S12] (((p1 ≤ (p3 - 3) → Q (-1) S12) ∧ (¬ p1 ≤ (p3 - 3) → (vp_in (p3 - 3) 5 ∧ Q (S12.1 (22 + 3) ((p3 - 3)).toNatClampNeg) S12)))))) ∧ (r11 = 0 → Q (-1) S))))))
theorem wkX0_best {w : sn_W} {C : sn_C} (hO : sn_Ok LoX w C RX0 cX0_best 4 (some .int) [] "best") (p1 : Int32) (p2 : Int32) (p3 : Int32) (S : sn_S) (Q : Int32 → sn_S → Prop) : wpX0_best w p1 p2 p3 S Q → sn_G LoX w rmX0_best (sn_qI Q) sn_noE C 0 0 0 [(0, .ref (w.2.2.1 0)), (1, .int p1), (2, .int p2), (3, .int p3)] [] S := by
  unfold wpX0_best
  generalize hQq : (sn_qI Q) = Qq
  refine sn_aload_n hO 0 rfl dX0_best_0 ?_
  refine sn_iload_n hO 1 rfl dX0_best_1 ?_
  refine sn_iload_n hO 2 rfl dX0_best_2 ?_
  refine sn_callV hO (c2 := 0) (s2 := 0) (rm := rmX0_isBest) [.int p1, .int p2] cvX0_260 (fun _ => sn_Rv_K atX_0) (fun h => ctX0_isBest h) ⟨Nat.le_of_ble_eq_true rfl, Nat.le_of_ble_eq_true rfl⟩ rfl rfl (Nat.le_of_ble_eq_true rfl) ⟨Nat.le_of_ble_eq_true rfl, Nat.le_of_ble_eq_true rfl, rfl, rfl⟩ dX0_best_3 (sn_bIp (fun r10 => ?_)) sn_x0
  refine sn_if_eq hO 19 (by decide) dX0_best_6 ?_ ?_
  · refine sn_iconst hO kc_m1 dX0_best_19 ?_
    subst hQq
    exact sn_iret hO rfl dX0_best_20
  · refine sn_iload_n hO 3 rfl dX0_best_9 ?_
    refine sn_iconst hO kc_0 dX0_best_10 ?_
    refine sn_bipush hO kb_7 dX0_best_11 ?_
    refine sn_callS hO (c2 := 0) (s2 := 0) (rm := rmX0_in) [.int p3, .int 0, .int 7] csX0_112 (fun h => ctX0_in h) ⟨Nat.le_of_ble_eq_true rfl, Nat.le_of_ble_eq_true rfl⟩ rfl rfl (Nat.le_of_ble_eq_true rfl) ⟨Nat.le_of_ble_eq_true rfl, Nat.le_of_ble_eq_true rfl, rfl, rfl⟩ dX0_best_13 (sn_bIp (fun r11 => ?_)) sn_x0
    refine sn_if_ne hO 21 (by decide) dX0_best_16 ?_ ?_
    · refine sn_aload_n hO 0 rfl dX0_best_21 ?_
      refine sn_getF hO fX0_60 atX_0 dX0_best_22 ?_
      refine sn_iload_n hO 1 rfl dX0_best_25 ?_
      refine sn_iload_n hO 2 rfl dX0_best_26 ?_
      refine sn_callV hO (c2 := 0) (s2 := 0) (rm := rmX5_looks) [.int p1, .int p2] cvX0_263 (fun _ => sn_Rv_K (atL0 (k := 22) rfl)) (fun h => ctX5_looks rfl h) ⟨Nat.le_of_ble_eq_true rfl, Nat.le_of_ble_eq_true rfl⟩ rfl rfl (Nat.le_of_ble_eq_true rfl) ⟨Nat.le_of_ble_eq_true rfl, Nat.le_of_ble_eq_true rfl, rfl, rfl⟩ dX0_best_27 (sn_bV (fun S12 => ?_)) sn_x0
      refine sn_iload_n hO 3 rfl dX0_best_30 ?_
      refine sn_tsw hO [56, 64, 72] 80 (by decide) (by decide) (by decide) dX0_best_31 ?_ ?_
      · refine ⟨?_, ?_, ?_, trivial⟩
        · refine sn_aload_n hO 0 rfl dX0_best_56 ?_
          refine sn_getF hO fX0_60 atX_0 dX0_best_57 ?_
          refine sn_getIN hO (fX0_265 22) (atL0 (k := 22) rfl) dX0_best_60 ?_
          subst hQq
          exact sn_iret hO rfl dX0_best_63
        · refine sn_aload_n hO 0 rfl dX0_best_64 ?_
          refine sn_getF hO fX0_60 atX_0 dX0_best_65 ?_
          refine sn_getIN hO (fX0_268 22) (atL0 (k := 22) rfl) dX0_best_68 ?_
          subst hQq
          exact sn_iret hO rfl dX0_best_71
        · refine sn_aload_n hO 0 rfl dX0_best_72 ?_
          refine sn_getF hO fX0_60 atX_0 dX0_best_73 ?_
          refine sn_getIN hO (fX0_271 22) (atL0 (k := 22) rfl) dX0_best_76 ?_
          subst hQq
          exact sn_iret hO rfl dX0_best_79
      · refine sn_iload_n hO 3 rfl dX0_best_80 ?_
        refine sn_iconst hO kc_3 dX0_best_81 ?_
        refine sn_isub hO dX0_best_82 ?_
        refine sn_iload_n hO 1 rfl dX0_best_83 ?_
        refine sn_icmp_ge hO 101 (by decide) dX0_best_84 ?_ ?_
        · refine sn_iconst hO kc_m1 dX0_best_101 ?_
          subst hQq
          exact sn_iret hO rfl dX0_best_102
        · refine sn_aload_n hO 0 rfl dX0_best_87 ?_
          refine sn_getF hO fX0_60 atX_0 dX0_best_88 ?_
          refine sn_getFN hO (fX0_272 22) (atL0 (k := 22) rfl) dX0_best_91 ?_
          refine sn_iload_n hO 3 rfl dX0_best_94 ?_
          refine sn_iconst hO kc_3 dX0_best_95 ?_
          refine sn_isub hO dX0_best_96 ?_
          refine sn_iald hO (atL3 (k := 22) rfl) rfl dX0_best_97 ?_
          refine sn_goto hO 102 (by decide) dX0_best_98 ?_
          subst hQq
          exact sn_iret hO rfl dX0_best_102
    · refine sn_iconst hO kc_m1 dX0_best_19 ?_
      subst hQq
      exact sn_iret hO rfl dX0_best_20
theorem ctX0_best {w : sn_W} {p1 : Int32} {p2 : Int32} {p3 : Int32} {S : sn_S} {Q : Int32 → sn_S → Prop} (h : wpX0_best w p1 p2 p3 S Q) : sn_Ct LoX w yX0_best (ws_ yX0_best cX0_best 4 (some .int)) rmX0_best [.ref (w.2.2.1 0), .int p1, .int p2, .int p3] S (sn_qI Q) sn_noE := sn_Ct_of (XX_O w) (by decide) (Nat.le_of_ble_eq_true rfl) RX0 rfl (fun C hO => wkX0_best hO p1 p2 p3 S Q h)
def rmX0_light : Room := { frames := 284, cells := 0, slots := 0, locals := 13898 }
/-- SnailPost.light(II)I -/
def wpX0_light (w : sn_W) (p1 : Int32) (p2 : Int32) (S : sn_S) (Q : Int32 → sn_S → Prop) : Prop :=
  wpX0_isBest w p1 p2 S (fun (r10 : Int32) => ((¬ r10 = 0 → wpX5_looks w 22 p1 p2 S (fun (S11 : sn_S) => sn_jn (fun (S12 : sn_S) => wpX0_told w (S12.1 22 8) S12 (fun (r14 : Int32) (S15 : sn_S) => Q r14 S15)) (fun (k13 : sn_S → Prop) => sn_lp2 (fun (rc18 : Int32 → sn_S → Prop) (i16 : Int32) (S17 : sn_S) => ((5 ≤ i16 → k13 S17) ∧ (¬ 5 ≤ i16 → sn_jn (fun (v19 : Int32) => (vp_in i16 5 ∧ sn_lt (sn_pI S17 6 (i16).toNatClampNeg v19) (fun S21 => rc18 (i16 + 1) S21))) (fun (k20 : Int32 → Prop) => ((p1 ≤ i16 → k20 (-1)) ∧ (¬ p1 ≤ i16 → (vp_in i16 5 ∧ k20 (S17.1 (22 + 3) (i16).toNatClampNeg)))))))) 0 S11))) ∧ (r10 = 0 → wpX0_refuse w (-1) S (fun (r22 : Int32) (S23 : sn_S) => Q r22 S23))))
theorem wkX0_light {w : sn_W} {C : sn_C} (hO : sn_Ok LoX w C RX0 cX0_light 4 (some .int) [] "light") (p1 : Int32) (p2 : Int32) (S : sn_S) (Q : Int32 → sn_S → Prop) : wpX0_light w p1 p2 S Q → sn_G LoX w rmX0_light (sn_qI Q) sn_noE C 0 0 0 [(0, .ref (w.2.2.1 0)), (1, .int p1), (2, .int p2)] [] S := by
  unfold wpX0_light
  generalize hQq : (sn_qI Q) = Qq
  refine sn_aload_n hO 0 rfl dX0_light_0 ?_
  refine sn_iload_n hO 1 rfl dX0_light_1 ?_
  refine sn_iload_n hO 2 rfl dX0_light_2 ?_
  refine sn_callV hO (c2 := 0) (s2 := 0) (rm := rmX0_isBest) [.int p1, .int p2] cvX0_260 (fun _ => sn_Rv_K atX_0) (fun h => ctX0_isBest h) ⟨Nat.le_of_ble_eq_true rfl, Nat.le_of_ble_eq_true rfl⟩ rfl rfl (Nat.le_of_ble_eq_true rfl) ⟨Nat.le_of_ble_eq_true rfl, Nat.le_of_ble_eq_true rfl, rfl, rfl⟩ dX0_light_3 (sn_bIp (fun r10 => ?_)) sn_x0
  refine sn_if_ne hO 15 (by decide) dX0_light_6 ?_ ?_
  · refine sn_aload_n hO 0 rfl dX0_light_15 ?_
    refine sn_getF hO fX0_60 atX_0 dX0_light_16 ?_
    refine sn_iload_n hO 1 rfl dX0_light_19 ?_
    refine sn_iload_n hO 2 rfl dX0_light_20 ?_
    refine sn_callV hO (c2 := 0) (s2 := 0) (rm := rmX5_looks) [.int p1, .int p2] cvX0_263 (fun _ => sn_Rv_K (atL0 (k := 22) rfl)) (fun h => ctX5_looks rfl h) ⟨Nat.le_of_ble_eq_true rfl, Nat.le_of_ble_eq_true rfl⟩ rfl rfl (Nat.le_of_ble_eq_true rfl) ⟨Nat.le_of_ble_eq_true rfl, Nat.le_of_ble_eq_true rfl, rfl, rfl⟩ dX0_light_21 (sn_bV (fun S11 => ?_)) sn_x0
    refine sn_iconst hO kc_0 dX0_light_24 ?_
    refine sn_istore_n hO (lv' := [(3, .int 0), (0, .ref (w.2.2.1 0)), (1, .int p1), (2, .int p2)]) (by decide) rfl dX0_light_25 ?_
    refine sn_jn_walk (fun (k : sn_S → Prop) => ∀ (S12 : sn_S), k S12 → sn_G LoX w rmX0_light Qq sn_noE C 0 0 64 [(0, .ref (w.2.2.1 0))] [] S12) ?_ ?_
    · intro S12
      refine sn_aload_n hO 0 rfl dX0_light_64 ?_
      refine sn_aload_n hO 0 rfl dX0_light_65 ?_
      refine sn_getF hO fX0_60 atX_0 dX0_light_66 ?_
      refine sn_getIN hO (fX0_265 22) (atL0 (k := 22) rfl) dX0_light_69 ?_
      refine sn_callV hO (c2 := 0) (s2 := 0) (rm := rmX0_told) [.int (S12.1 22 8)] cvX0_129 (fun _ => sn_Rv_K atX_0) (fun h => ctX0_told h) ⟨Nat.le_of_ble_eq_true rfl, Nat.le_of_ble_eq_true rfl⟩ rfl rfl (Nat.le_of_ble_eq_true rfl) ⟨Nat.le_of_ble_eq_true rfl, Nat.le_of_ble_eq_true rfl, rfl, rfl⟩ dX0_light_72 (sn_bI (fun r14 S15 => ?_)) sn_x0
      subst hQq
      exact sn_iret hO rfl dX0_light_75
    · intro k13 hk13
      refine sn_sub [1, 2, 0] rfl ?_
      refine sn_lp2_walk (Gd := fun (i16 : Int32) (S17 : sn_S) => sn_G LoX w rmX0_light Qq sn_noE C 0 0 26 [(0, .ref (w.2.2.1 0)), (1, .int p1), (3, .int i16)] [] S17) ?_ _ _
      intro rc18 hrc18 i16 S17
      refine sn_iload_n hO 2 rfl dX0_light_26 ?_
      refine sn_iconst hO kc_5 dX0_light_27 ?_
      refine sn_icmp_ge hO 64 (by decide) dX0_light_28 ?_ ?_
      · refine sn_sub [0] rfl ?_
        exact hk13 _
      · refine sn_aload_n hO 0 rfl dX0_light_31 ?_
        refine sn_getF hO fX0_16 atX_0 dX0_light_32 ?_
        refine sn_getFN hO fX0_170 atX_2 dX0_light_35 ?_
        refine sn_iload_n hO 2 rfl dX0_light_38 ?_
        refine sn_iload_n hO 2 rfl dX0_light_39 ?_
        refine sn_iload_n hO 1 rfl dX0_light_40 ?_
        refine sn_jn_walk (fun (k : Int32 → Prop) => ∀ (v19 : Int32), k v19 → sn_G LoX w rmX0_light Qq sn_noE C 0 0 57 [(0, .ref (w.2.2.1 0)), (1, .int p1), (3, .int i16)] [.int v19, .int i16, .ref (w.2.2.1 6)] S17) ?_ ?_
        · intro v19
          refine sn_iast hO atX_6 rfl dX0_light_57 ?_
          refine sn_nmS (fun S21 => ?_)
          refine sn_iinc hO (lv' := [(3, .int (i16 + 1)), (0, .ref (w.2.2.1 0)), (1, .int p1)]) 2 rfl ki_1 (by decide) rfl dX0_light_58 ?_
          refine sn_goto hO 26 (by decide) dX0_light_61 ?_
          refine sn_sub [1, 2, 0] rfl ?_
          exact hrc18 _ _
        · intro k20 hk20
          refine sn_icmp_ge hO 56 (by decide) dX0_light_41 ?_ ?_
          · refine sn_iconst hO kc_m1 dX0_light_56 ?_
            exact hk20 _
          · refine sn_aload_n hO 0 rfl dX0_light_44 ?_
            refine sn_getF hO fX0_60 atX_0 dX0_light_45 ?_
            refine sn_getFN hO (fX0_272 22) (atL0 (k := 22) rfl) dX0_light_48 ?_
            refine sn_iload_n hO 2 rfl dX0_light_51 ?_
            refine sn_iald hO (atL3 (k := 22) rfl) rfl dX0_light_52 ?_
            refine sn_goto hO 57 (by decide) dX0_light_53 ?_
            exact hk20 _
  · refine sn_aload_n hO 0 rfl dX0_light_9 ?_
    refine sn_iconst hO kc_m1 dX0_light_10 ?_
    refine sn_callV hO (c2 := 0) (s2 := 0) (rm := rmX0_refuse) [.int (-1)] cvX0_122 (fun _ => sn_Rv_K atX_0) (fun h => ctX0_refuse h) ⟨Nat.le_of_ble_eq_true rfl, Nat.le_of_ble_eq_true rfl⟩ rfl rfl (Nat.le_of_ble_eq_true rfl) ⟨Nat.le_of_ble_eq_true rfl, Nat.le_of_ble_eq_true rfl, rfl, rfl⟩ dX0_light_11 (sn_bI (fun r22 S23 => ?_)) sn_x0
    subst hQq
    exact sn_iret hO rfl dX0_light_14
theorem ctX0_light {w : sn_W} {p1 : Int32} {p2 : Int32} {S : sn_S} {Q : Int32 → sn_S → Prop} (h : wpX0_light w p1 p2 S Q) : sn_Ct LoX w yX0_light (ws_ yX0_light cX0_light 4 (some .int)) rmX0_light [.ref (w.2.2.1 0), .int p1, .int p2] S (sn_qI Q) sn_noE := sn_Ct_of (XX_O w) (by decide) (Nat.le_of_ble_eq_true rfl) RX0 rfl (fun C hO => wkX0_light hO p1 p2 S Q h)
def rmX5_duel (d : Nat) : Room := { frames := 2 * d + 266, cells := 0, slots := 0, locals := 100 * d + 13054 }
def okX5_duel (w : sn_W) (d : Nat) (self : Nat → Int32 → Int32 → Int32 → sn_S → (Int32 → sn_S → Prop) → Prop) : Prop := ∀ (kl : Nat) (p1 : Int32) (p2 : Int32) (p3 : Int32) (S : sn_S) (Q : Int32 → sn_S → Prop), isL kl = true → self kl p1 p2 p3 S Q → sn_Ct LoX w yX5_duel (ws_ yX5_duel cX5_duel 7 (some .int)) (rmX5_duel d) [.ref (w.2.2.1 kl), .int p1, .int p2, .int p3] S (sn_qI Q) sn_noE
theorem okX5_duel.use {w : sn_W} {d : Nat} {self : Nat → Int32 → Int32 → Int32 → sn_S → (Int32 → sn_S → Prop) → Prop} (hself : okX5_duel w d self) {kl : Nat} {p1 : Int32} {p2 : Int32} {p3 : Int32} (hkl : isL kl = true) {S : sn_S} {Q : Int32 → sn_S → Prop} (h : self kl p1 p2 p3 S Q) : sn_Ct LoX w yX5_duel (ws_ yX5_duel cX5_duel 7 (some .int)) (rmX5_duel d) [.ref (w.2.2.1 kl), .int p1, .int p2, .int p3] S (sn_qI Q) sn_noE := hself _ _ _ _ _ Q hkl h
/-- SnailPost$Lantern.duel(III)I -/
def wpX5_duelF (w : sn_W) (self : Nat → Int32 → Int32 → Int32 → sn_S → (Int32 → sn_S → Prop) → Prop) (kl : Nat) (p1 : Int32) (p2 : Int32) (p3 : Int32) (S : sn_S) (Q : Int32 → sn_S → Prop) : Prop :=
  ((¬ p1 = p2 → sn_lp3 (fun (rc13 : Int32 → Int32 → sn_S → Prop) (i10 : Int32) (i11 : Int32) (S12 : sn_S) => (((S12.1 2 9) ≤ i11 → Q i10 S12) ∧ (¬ (S12.1 2 9) ≤ i11 → wpX5_goes w kl p1 i11 S12 (fun (S14 : sn_S) => self kl (p1 + 1) p2 p3 S14 (fun (r15 : Int32) (S16 : sn_S) => sn_jn (fun (v17 : Int32) (S18 : sn_S) => rc13 v17 (i11 + 1) S18) (fun (k19 : Int32 → sn_S → Prop) => sn_jn (κ := Prop) ((vp_in p1 5 ∧ sn_lt (sn_pI S16 (kl + 2) (p1).toNatClampNeg i11) (fun S21 => k19 r15 S21))) (fun (k20 : Prop) => ((i10 = (-1) → k20) ∧ (¬ i10 = (-1) → ((¬ (p1 - p1 / 2 * 2) = 0 → ((i10 < r15 → k20) ∧ (¬ i10 < r15 → k19 i10 S16))) ∧ ((p1 - p1 / 2 * 2) = 0 → ((r15 < i10 → k20) ∧ (¬ r15 < i10 → k19 i10 S16))))))))))))) (-1) (-1) S) ∧ (p1 = p2 → (vp_in p1 6 ∧ isW ((kl + 4) + 5 * (p1).toNatClampNeg) = true ∧ sn_lt ((kl + 4) + 5 * (p1).toNatClampNeg) (fun kx22 => (vp_in p3 6 ∧ wpX0_of0 w p3 1 S (fun (r23 : Int32) => wpX0_apart w (S.1 (kx22 + 1) (p3).toNatClampNeg) r23 (fun (r24 : Int32) => Q r24 S)))))))
theorem wkX5_duel {w : sn_W} {C : sn_C} {d : Nat} {self : Nat → Int32 → Int32 → Int32 → sn_S → (Int32 → sn_S → Prop) → Prop} (hself : okX5_duel w d self) (hO : sn_Ok LoX w C RX5 cX5_duel 7 (some .int) [] "duel") (kl : Nat) (p1 : Int32) (p2 : Int32) (p3 : Int32) (S : sn_S) (hkl : isL kl = true) (Q : Int32 → sn_S → Prop) : wpX5_duelF w self kl p1 p2 p3 S Q → sn_G LoX w (rmX5_duel (d + 1)) (sn_qI Q) sn_noE C 0 0 0 [(0, .ref (w.2.2.1 kl)), (1, .int p1), (2, .int p2), (3, .int p3)] [] S := by
  unfold wpX5_duelF
  generalize hQq : (sn_qI Q) = Qq
  refine sn_iload_n hO 1 rfl dX5_duel_0 ?_
  refine sn_iload_n hO 2 rfl dX5_duel_1 ?_
  refine sn_icmp_ne hO 29 (by decide) dX5_duel_2 ?_ ?_
  · refine sn_iconst hO kc_m1 dX5_duel_29 ?_
    refine sn_istore hO (lv' := [(4, .int (-1)), (0, .ref (w.2.2.1 kl)), (1, .int p1), (2, .int p2), (3, .int p3)]) (by decide) rfl dX5_duel_30 ?_
    refine sn_iconst hO kc_m1 dX5_duel_32 ?_
    refine sn_istore hO (lv' := [(5, .int (-1)), (4, .int (-1)), (0, .ref (w.2.2.1 kl)), (1, .int p1), (2, .int p2), (3, .int p3)]) (by decide) rfl dX5_duel_33 ?_
    refine sn_sub [2, 3, 4, 5, 1, 0] rfl ?_
    refine sn_lp3_walk (Gd := fun (i10 : Int32) (i11 : Int32) (S12 : sn_S) => sn_G LoX w (rmX5_duel (d + 1)) Qq sn_noE C 0 0 35 [(0, .ref (w.2.2.1 kl)), (1, .int p1), (2, .int p2), (3, .int p3), (4, .int i10), (5, .int i11)] [] S12) ?_ _ _ _
    intro rc13 hrc13 i10 i11 S12
    refine sn_iload hO 5 rfl dX5_duel_35 ?_
    refine sn_aload_n hO 0 rfl dX5_duel_37 ?_
    refine sn_getF hO (fX5_3 kl) (atL0 (k := kl) hkl) dX5_duel_38 ?_
    refine sn_getFN hO fX5_64 atX_0 dX5_duel_41 ?_
    refine sn_getIN hO fX5_68 atX_2 dX5_duel_44 ?_
    refine sn_icmp_ge hO 118 (by decide) dX5_duel_47 ?_ ?_
    · refine sn_iload hO 4 rfl dX5_duel_118 ?_
      subst hQq
      exact sn_iret hO rfl dX5_duel_120
    · refine sn_aload_n hO 0 rfl dX5_duel_50 ?_
      refine sn_iload_n hO 1 rfl dX5_duel_51 ?_
      refine sn_iload hO 5 rfl dX5_duel_52 ?_
      refine sn_callV hO (c2 := 0) (s2 := 0) (rm := rmX5_goes) [.int p1, .int i11] cvX5_73 (fun _ => sn_Rv_K (atL0 (k := kl) hkl)) (fun h => ctX5_goes hkl h) ⟨by simp only [rmX5_duel, rmX5_goes]; omega, by simp only [rmX5_duel, rmX5_goes]; omega⟩ rfl rfl (Nat.le_of_ble_eq_true rfl) ⟨Nat.le_of_ble_eq_true rfl, Nat.le_of_ble_eq_true rfl, rfl, rfl⟩ dX5_duel_54 (sn_bV (fun S14 => ?_)) sn_x0
      refine sn_aload_n hO 0 rfl dX5_duel_57 ?_
      refine sn_iload_n hO 1 rfl dX5_duel_58 ?_
      refine sn_iconst hO kc_1 dX5_duel_59 ?_
      refine sn_iadd hO dX5_duel_60 ?_
      refine sn_iload_n hO 2 rfl dX5_duel_61 ?_
      refine sn_iload_n hO 3 rfl dX5_duel_62 ?_
      refine sn_callV hO (c2 := 0) (s2 := 0) (rm := (rmX5_duel d)) [.int (p1 + 1), .int p2, .int p3] cvX5_113 (fun _ => sn_Rv_K (atL0 (k := kl) hkl)) (fun h => okX5_duel.use hself hkl h) ⟨by simp only [rmX5_duel]; omega, by simp only [rmX5_duel]; omega⟩ rfl rfl (Nat.le_of_ble_eq_true rfl) ⟨Nat.le_of_ble_eq_true rfl, Nat.le_of_ble_eq_true rfl, rfl, rfl⟩ dX5_duel_63 (sn_bI (fun r15 S16 => ?_)) sn_x0
      refine sn_istore hO (lv' := [(6, .int r15), (0, .ref (w.2.2.1 kl)), (1, .int p1), (2, .int p2), (3, .int p3), (4, .int i10), (5, .int i11)]) (by decide) rfl dX5_duel_66 ?_
      refine sn_iload hO 5 rfl dX5_duel_68 ?_
      refine sn_iconst hO kc_m1 dX5_duel_70 ?_
      refine sn_jn_walk (fun (k : Int32 → sn_S → Prop) => ∀ (v17 : Int32) (S18 : sn_S), k v17 S18 → sn_G LoX w (rmX5_duel (d + 1)) Qq sn_noE C 0 0 112 [(0, .ref (w.2.2.1 kl)), (1, .int p1), (2, .int p2), (3, .int p3), (4, .int v17), (5, .int i11)] [] S18) ?_ ?_
      · intro v17 S18
        refine sn_iinc hO (lv' := [(5, .int (i11 + 1)), (0, .ref (w.2.2.1 kl)), (1, .int p1), (2, .int p2), (3, .int p3), (4, .int v17)]) 5 rfl ki_1 (by decide) rfl dX5_duel_112 ?_
        refine sn_goto hO 35 (by decide) dX5_duel_115 ?_
        refine sn_sub [1, 2, 3, 4, 5, 0] rfl ?_
        exact hrc13 _ _ _
      · intro k19 hk19
        refine sn_jn_walk (fun (k : Prop) => k → sn_G LoX w (rmX5_duel (d + 1)) Qq sn_noE C 0 0 100 [(0, .ref (w.2.2.1 kl)), (1, .int p1), (2, .int p2), (3, .int p3), (5, .int i11), (6, .int r15)] [] S16) ?_ ?_
        · refine sn_iload hO 5 rfl dX5_duel_100 ?_
          refine sn_istore hO (lv' := [(4, .int r15), (0, .ref (w.2.2.1 kl)), (1, .int p1), (2, .int p2), (3, .int p3), (5, .int i11), (6, .int r15)]) (by decide) rfl dX5_duel_102 ?_
          refine sn_aload_n hO 1 rfl dX5_duel_104 ?_
          refine sn_getF hO (fX5_24 kl) (atL0 (k := kl) hkl) dX5_duel_105 ?_
          refine sn_iload_n hO 2 rfl dX5_duel_108 ?_
          refine sn_iload hO 5 rfl dX5_duel_109 ?_
          refine sn_iast hO (atL2 (k := kl) hkl) rfl dX5_duel_111 ?_
          refine sn_nmS (fun S21 => ?_)
          refine sn_sub [1, 2, 3, 4, 0, 5] rfl ?_
          exact hk19 _ _
        · intro k20 hk20
          refine sn_icmp_eq hO 100 (by decide) dX5_duel_71 ?_ ?_
          · refine sn_sub [1, 2, 3, 4, 6, 0] rfl ?_
            exact hk20
          · refine sn_iload_n hO 2 rfl dX5_duel_74 ?_
            refine sn_iconst hO kc_2 dX5_duel_75 ?_
            refine sn_irem hO (by decide) dX5_duel_76 ?_
            refine sn_if_ne hO 90 (by decide) dX5_duel_77 ?_ ?_
            · refine sn_iload hO 0 rfl dX5_duel_90 ?_
              refine sn_iload hO 5 rfl dX5_duel_92 ?_
              refine sn_icmp_gt hO 100 (by decide) dX5_duel_94 ?_ ?_
              · refine sn_sub [1, 2, 3, 4, 6, 0] rfl ?_
                exact hk20
              · refine sn_goto hO 112 (by decide) dX5_duel_97 ?_
                refine sn_sub [1, 2, 3, 4, 5, 6] rfl ?_
                exact hk19 _ _
            · refine sn_iload hO 0 rfl dX5_duel_80 ?_
              refine sn_iload hO 5 rfl dX5_duel_82 ?_
              refine sn_icmp_lt hO 100 (by decide) dX5_duel_84 ?_ ?_
              · refine sn_sub [1, 2, 3, 4, 6, 0] rfl ?_
                exact hk20
              · refine sn_goto hO 112 (by decide) dX5_duel_87 ?_
                refine sn_sub [1, 2, 3, 4, 5, 6] rfl ?_
                exact hk19 _ _
  · refine sn_aload_n hO 0 rfl dX5_duel_5 ?_
    refine sn_getF hO (fX5_20 kl) (atL0 (k := kl) hkl) dX5_duel_6 ?_
    refine sn_iload_n hO 1 rfl dX5_duel_9 ?_
    refine sn_aaldW (isK := isW) (j := (kl + 4)) hO (atL1 (k := kl) hkl) rfl dX5_duel_10 (fun kx22 hkx22 => ?_)
    refine sn_getFN hO (fX5_103 kx22) (atW0 (k := kx22) hkx22) dX5_duel_11 ?_
    refine sn_iload_n hO 3 rfl dX5_duel_14 ?_
    refine sn_iald hO (atW1 (k := kx22) hkx22) rfl dX5_duel_15 ?_
    refine sn_aload_n hO 0 rfl dX5_duel_16 ?_
    refine sn_getF hO (fX5_3 kl) (atL0 (k := kl) hkl) dX5_duel_17 ?_
    refine sn_iload_n hO 3 rfl dX5_duel_20 ?_
    refine sn_iconst hO kc_1 dX5_duel_21 ?_
    refine sn_callVN hO (c2 := 0) (s2 := 0) (rm := rmX0_of0) [.int p3, .int 1] cvX5_106 (fun _ => sn_Rv_K atX_0) (fun h => ctX0_of0 h) ⟨by simp only [rmX0_of0, rmX5_duel]; omega, by simp only [rmX0_of0, rmX5_duel]; omega⟩ rfl rfl (Nat.le_of_ble_eq_true rfl) ⟨Nat.le_of_ble_eq_true rfl, Nat.le_of_ble_eq_true rfl, rfl, rfl⟩ dX5_duel_22 (sn_bIp (fun r23 => ?_)) sn_x0
    refine sn_callSN hO (c2 := 0) (s2 := 0) (rm := rmX0_apart) [.int (S.1 (kx22 + 1) (p3).toNatClampNeg), .int r23] csX5_110 (fun h => ctX0_apart h) ⟨by simp only [rmX0_apart, rmX5_duel]; omega, by simp only [rmX0_apart, rmX5_duel]; omega⟩ rfl rfl (Nat.le_of_ble_eq_true rfl) ⟨Nat.le_of_ble_eq_true rfl, Nat.le_of_ble_eq_true rfl, rfl, rfl⟩ dX5_duel_25 (sn_bIp (fun r24 => ?_)) sn_x0
    subst hQq
    exact sn_iret hO rfl dX5_duel_28
def wpX5_duel (w : sn_W) : Nat → Nat → Int32 → Int32 → Int32 → sn_S → (Int32 → sn_S → Prop) → Prop
  | 0 => fun _ _ _ _ _ _ => False
  | d + 1 => wpX5_duelF w (wpX5_duel w d)
theorem okX5_duel_all {w : sn_W} : ∀ d : Nat, okX5_duel w d (wpX5_duel w d)
  | 0 => fun _ _ _ _ _ _ _ => fun h => h.elim
  | d + 1 => fun kl p1 p2 p3 S Q hkl h => sn_Ct_of (XX_O w) (by decide) (Nat.le_of_ble_eq_true rfl) RX5 rfl (fun C hO => wkX5_duel (okX5_duel_all d) hO kl p1 p2 p3 S hkl Q h)
theorem ctX5_duel {w : sn_W} (d : Nat) {kl : Nat} {p1 : Int32} {p2 : Int32} {p3 : Int32} (hkl : isL kl = true) {S : sn_S} {Q : Int32 → sn_S → Prop} (h : wpX5_duel w d kl p1 p2 p3 S Q) : sn_Ct LoX w yX5_duel (ws_ yX5_duel cX5_duel 7 (some .int)) (rmX5_duel d) [.ref (w.2.2.1 kl), .int p1, .int p2, .int p3] S (sn_qI Q) sn_noE := okX5_duel_all d _ _ _ _ _ Q hkl h
def rmX0_duel : Room := { frames := 283, cells := 0, slots := 0, locals := 13880 }
/-- SnailPost.duel(III)I -/
def wpX0_duel (w : sn_W) (p1 : Int32) (p2 : Int32) (p3 : Int32) (S : sn_S) (Q : Int32 → sn_S → Prop) : Prop :=
  wpX0_in w p1 1 5 (fun (r10 : Int32) => ((r10 = 0 → Q (-1) S) ∧ (¬ r10 = 0 → wpX0_isSnail w p2 S (fun (r11 : Int32) => ((r11 = 0 → Q (-1) S) ∧ (¬ r11 = 0 → wpX0_in w p3 0 1 (fun (r12 : Int32) => ((¬ r12 = 0 → sn_jn (fun (S13 : sn_S) => ((¬ p3 = 0 → Q (S13.1 0 20) S13) ∧ (p3 = 0 → Q (S13.1 0 19) S13))) (fun (k14 : sn_S → Prop) => sn_jn (κ := Prop) (sn_lt (sn_pI S 0 16 (S.1 0 8)) (fun S16 => sn_lt (sn_pI S16 0 17 p1) (fun S17 => sn_lt (sn_pI S17 0 18 p2) (fun S18 => (vp_in 0 6 ∧ isW ((56 + 4) + 5 * (0 : Int32).toNatClampNeg) = true ∧ sn_lt ((56 + 4) + 5 * (0 : Int32).toNatClampNeg) (fun kx19 => wpX4_begins w kx19 S18 (fun (S20 : sn_S) => wpX5_duel w 8 56 0 p1 p2 S20 (fun (r21 : Int32) (S22 : sn_S) => sn_lt (sn_pI S22 0 19 r21) (fun S23 => (vp_in 0 5 ∧ sn_lt (sn_pI S23 0 20 (S23.1 (56 + 2) (0 : Int32).toNatClampNeg)) (fun S24 => k14 S24))))))))))) (fun (k15 : Prop) => ((¬ (S.1 0 16) = (S.1 0 8) → k15) ∧ ((S.1 0 16) = (S.1 0 8) → ((¬ (S.1 0 17) = p1 → k15) ∧ ((S.1 0 17) = p1 → (((S.1 0 18) = p2 → k14 S) ∧ (¬ (S.1 0 18) = p2 → k15))))))))) ∧ (r12 = 0 → Q (-1) S)))))))))
theorem wkX0_duel {w : sn_W} {C : sn_C} (hO : sn_Ok LoX w C RX0 cX0_duel 4 (some .int) [] "duel") (p1 : Int32) (p2 : Int32) (p3 : Int32) (S : sn_S) (Q : Int32 → sn_S → Prop) : wpX0_duel w p1 p2 p3 S Q → sn_G LoX w rmX0_duel (sn_qI Q) sn_noE C 0 0 0 [(0, .ref (w.2.2.1 0)), (1, .int p1), (2, .int p2), (3, .int p3)] [] S := by
  unfold wpX0_duel
  generalize hQq : (sn_qI Q) = Qq
  refine sn_iload_n hO 1 rfl dX0_duel_0 ?_
  refine sn_iconst hO kc_1 dX0_duel_1 ?_
  refine sn_iconst hO kc_5 dX0_duel_2 ?_
  refine sn_callS hO (c2 := 0) (s2 := 0) (rm := rmX0_in) [.int p1, .int 1, .int 5] csX0_112 (fun h => ctX0_in h) ⟨Nat.le_of_ble_eq_true rfl, Nat.le_of_ble_eq_true rfl⟩ rfl rfl (Nat.le_of_ble_eq_true rfl) ⟨Nat.le_of_ble_eq_true rfl, Nat.le_of_ble_eq_true rfl, rfl, rfl⟩ dX0_duel_3 (sn_bIp (fun r10 => ?_)) sn_x0
  refine sn_if_eq hO 26 (by decide) dX0_duel_6 ?_ ?_
  · refine sn_iconst hO kc_m1 dX0_duel_26 ?_
    subst hQq
    exact sn_iret hO rfl dX0_duel_27
  · refine sn_aload_n hO 0 rfl dX0_duel_9 ?_
    refine sn_iload_n hO 2 rfl dX0_duel_10 ?_
    refine sn_callV hO (c2 := 0) (s2 := 0) (rm := rmX0_isSnail) [.int p2] cvX0_158 (fun _ => sn_Rv_K atX_0) (fun h => ctX0_isSnail h) ⟨Nat.le_of_ble_eq_true rfl, Nat.le_of_ble_eq_true rfl⟩ rfl rfl (Nat.le_of_ble_eq_true rfl) ⟨Nat.le_of_ble_eq_true rfl, Nat.le_of_ble_eq_true rfl, rfl, rfl⟩ dX0_duel_11 (sn_bIp (fun r11 => ?_)) sn_x0
    refine sn_if_eq hO 26 (by decide) dX0_duel_14 ?_ ?_
    · refine sn_iconst hO kc_m1 dX0_duel_26 ?_
      subst hQq
      exact sn_iret hO rfl dX0_duel_27
    · refine sn_iload_n hO 3 rfl dX0_duel_17 ?_
      refine sn_iconst hO kc_0 dX0_duel_18 ?_
      refine sn_iconst hO kc_1 dX0_duel_19 ?_
      refine sn_callS hO (c2 := 0) (s2 := 0) (rm := rmX0_in) [.int p3, .int 0, .int 1] csX0_112 (fun h => ctX0_in h) ⟨Nat.le_of_ble_eq_true rfl, Nat.le_of_ble_eq_true rfl⟩ rfl rfl (Nat.le_of_ble_eq_true rfl) ⟨Nat.le_of_ble_eq_true rfl, Nat.le_of_ble_eq_true rfl, rfl, rfl⟩ dX0_duel_20 (sn_bIp (fun r12 => ?_)) sn_x0
      refine sn_if_ne hO 28 (by decide) dX0_duel_23 ?_ ?_
      · refine sn_aload_n hO 0 rfl dX0_duel_28 ?_
        refine sn_getI hO fX0_67 atX_0 dX0_duel_29 ?_
        refine sn_aload_n hO 0 rfl dX0_duel_32 ?_
        refine sn_getI hO fX0_106 atX_0 dX0_duel_33 ?_
        refine sn_jn_walk (fun (k : sn_S → Prop) => ∀ (S13 : sn_S), k S13 → sn_G LoX w rmX0_duel Qq sn_noE C 0 0 112 [(0, .ref (w.2.2.1 0)), (3, .int p3)] [] S13) ?_ ?_
        · intro S13
          refine sn_iload_n hO 1 rfl dX0_duel_112 ?_
          refine sn_if_ne hO 123 (by decide) dX0_duel_113 ?_ ?_
          · refine sn_aload_n hO 0 rfl dX0_duel_123 ?_
            refine sn_getI hO fX0_295 atX_0 dX0_duel_124 ?_
            subst hQq
            exact sn_iret hO rfl dX0_duel_127
          · refine sn_aload_n hO 0 rfl dX0_duel_116 ?_
            refine sn_getI hO fX0_289 atX_0 dX0_duel_117 ?_
            refine sn_goto hO 127 (by decide) dX0_duel_120 ?_
            subst hQq
            exact sn_iret hO rfl dX0_duel_127
        · intro k14 hk14
          refine sn_jn_walk (fun (k : Prop) => k → sn_G LoX w rmX0_duel Qq sn_noE C 0 0 55 [(0, .ref (w.2.2.1 0)), (1, .int p1), (2, .int p2), (3, .int p3)] [] S) ?_ ?_
          · refine sn_aload_n hO 0 rfl dX0_duel_55 ?_
            refine sn_aload_n hO 0 rfl dX0_duel_56 ?_
            refine sn_getI hO fX0_106 atX_0 dX0_duel_57 ?_
            refine sn_putI hO fX0_67 atX_0 rfl rfl dX0_duel_60 ?_
            refine sn_nmS (fun S16 => ?_)
            refine sn_aload_n hO 0 rfl dX0_duel_63 ?_
            refine sn_iload_n hO 1 rfl dX0_duel_64 ?_
            refine sn_putI hO fX0_275 atX_0 rfl rfl dX0_duel_65 ?_
            refine sn_nmS (fun S17 => ?_)
            refine sn_aload_n hO 0 rfl dX0_duel_68 ?_
            refine sn_iload_n hO 2 rfl dX0_duel_69 ?_
            refine sn_putI hO fX0_278 atX_0 rfl rfl dX0_duel_70 ?_
            refine sn_nmS (fun S18 => ?_)
            refine sn_aload_n hO 0 rfl dX0_duel_73 ?_
            refine sn_getF hO fX0_64 atX_0 dX0_duel_74 ?_
            refine sn_getFN hO (fX0_281 56) (atL0 (k := 56) rfl) dX0_duel_77 ?_
            refine sn_iconst hO kc_0 dX0_duel_80 ?_
            refine sn_aaldW (isK := isW) (j := (56 + 4)) hO (atL1 (k := 56) rfl) rfl dX0_duel_81 (fun kx19 hkx19 => ?_)
            refine sn_callV hO (c2 := 0) (s2 := 0) (rm := rmX4_begins) [] cvX0_229 (fun _ => sn_Rv_K (atW0 (k := kx19) hkx19)) (fun h => ctX4_begins hkx19 h) ⟨Nat.le_of_ble_eq_true rfl, Nat.le_of_ble_eq_true rfl⟩ rfl rfl (Nat.le_of_ble_eq_true rfl) ⟨Nat.le_of_ble_eq_true rfl, Nat.le_of_ble_eq_true rfl, rfl, rfl⟩ dX0_duel_82 (sn_bV (fun S20 => ?_)) sn_x0
            refine sn_aload_n hO 0 rfl dX0_duel_85 ?_
            refine sn_aload_n hO 0 rfl dX0_duel_86 ?_
            refine sn_getF hO fX0_64 atX_0 dX0_duel_87 ?_
            refine sn_iconst hO kc_0 dX0_duel_90 ?_
            refine sn_iload_n hO 1 rfl dX0_duel_91 ?_
            refine sn_iload_n hO 2 rfl dX0_duel_92 ?_
            refine sn_callV hO (c2 := 0) (s2 := 0) (rm := (rmX5_duel 8)) [.int 0, .int p1, .int p2] cvX0_285 (fun _ => sn_Rv_K (atL0 (k := 56) rfl)) (fun h => ctX5_duel 8 rfl h) ⟨Nat.le_of_ble_eq_true rfl, Nat.le_of_ble_eq_true rfl⟩ rfl rfl (Nat.le_of_ble_eq_true rfl) ⟨Nat.le_of_ble_eq_true rfl, Nat.le_of_ble_eq_true rfl, rfl, rfl⟩ dX0_duel_93 (sn_bI (fun r21 S22 => ?_)) sn_x0
            refine sn_putI hO fX0_289 atX_0 rfl rfl dX0_duel_96 ?_
            refine sn_nmS (fun S23 => ?_)
            refine sn_aload_n hO 0 rfl dX0_duel_99 ?_
            refine sn_aload_n hO 0 rfl dX0_duel_100 ?_
            refine sn_getF hO fX0_64 atX_0 dX0_duel_101 ?_
            refine sn_getFN hO (fX0_292 56) (atL0 (k := 56) rfl) dX0_duel_104 ?_
            refine sn_iconst hO kc_0 dX0_duel_107 ?_
            refine sn_iald hO (atL2 (k := 56) rfl) rfl dX0_duel_108 ?_
            refine sn_putI hO fX0_295 atX_0 rfl rfl dX0_duel_109 ?_
            refine sn_nmS (fun S24 => ?_)
            refine sn_sub [0, 3] rfl ?_
            exact hk14 _
          · intro k15 hk15
            refine sn_icmp_ne hO 55 (by decide) dX0_duel_36 ?_ ?_
            · exact hk15
            · refine sn_aload_n hO 0 rfl dX0_duel_39 ?_
              refine sn_getI hO fX0_275 atX_0 dX0_duel_40 ?_
              refine sn_iload_n hO 1 rfl dX0_duel_43 ?_
              refine sn_icmp_ne hO 55 (by decide) dX0_duel_44 ?_ ?_
              · exact hk15
              · refine sn_aload_n hO 0 rfl dX0_duel_47 ?_
                refine sn_getI hO fX0_278 atX_0 dX0_duel_48 ?_
                refine sn_iload_n hO 2 rfl dX0_duel_51 ?_
                refine sn_icmp_eq hO 112 (by decide) dX0_duel_52 ?_ ?_
                · refine sn_sub [0, 3] rfl ?_
                  exact hk14 _
                · exact hk15
      · refine sn_iconst hO kc_m1 dX0_duel_26 ?_
        subst hQq
        exact sn_iret hO rfl dX0_duel_27
theorem ctX0_duel {w : sn_W} {p1 : Int32} {p2 : Int32} {p3 : Int32} {S : sn_S} {Q : Int32 → sn_S → Prop} (h : wpX0_duel w p1 p2 p3 S Q) : sn_Ct LoX w yX0_duel (ws_ yX0_duel cX0_duel 4 (some .int)) rmX0_duel [.ref (w.2.2.1 0), .int p1, .int p2, .int p3] S (sn_qI Q) sn_noE := sn_Ct_of (XX_O w) (by decide) (Nat.le_of_ble_eq_true rfl) RX0 rfl (fun C hO => wkX0_duel hO p1 p2 p3 S Q h)
def rmX6_clears : Room := { frames := 0, cells := 0, slots := 0, locals := 0 }
/-- SnailPost$Span.clears()V -/
def wpX6_clears (w : sn_W) (S : sn_S) (Q : sn_S → Prop) : Prop :=
  sn_lp2 (fun (rc12 : Int32 → sn_S → Prop) (i10 : Int32) (S11 : sn_S) => ((6 ≤ i10 → Q S11) ∧ (¬ 6 ≤ i10 → (vp_in i10 6 ∧ sn_lt (sn_pI S11 91 (i10).toNatClampNeg 0) (fun S13 => rc12 (i10 + 1) S13))))) 0 S
theorem wkX6_clears {w : sn_W} {C : sn_C} (hO : sn_Ok LoX w C RX6 cX6_clears 2 none [] "clears") (S : sn_S) (Q : sn_S → Prop) : wpX6_clears w S Q → sn_G LoX w rmX6_clears (sn_qV Q) sn_noE C 0 0 0 [(0, .ref (w.2.2.1 90))] [] S := by
  unfold wpX6_clears
  generalize hQq : (sn_qV Q) = Qq
  refine sn_iconst hO kc_0 dX6_clears_0 ?_
  refine sn_istore_n hO (lv' := [(1, .int 0), (0, .ref (w.2.2.1 90))]) (by decide) rfl dX6_clears_1 ?_
  refine sn_sub [1, 0] rfl ?_
  refine sn_lp2_walk (Gd := fun (i10 : Int32) (S11 : sn_S) => sn_G LoX w rmX6_clears Qq sn_noE C 0 0 2 [(0, .ref (w.2.2.1 90)), (1, .int i10)] [] S11) ?_ _ _
  intro rc12 hrc12 i10 S11
  refine sn_iload_n hO 1 rfl dX6_clears_2 ?_
  refine sn_bipush hO kb_6 dX6_clears_3 ?_
  refine sn_icmp_ge hO 21 (by decide) dX6_clears_5 ?_ ?_
  · subst hQq
    exact sn_vret hO rfl dX6_clears_21
  · refine sn_aload_n hO 0 rfl dX6_clears_8 ?_
    refine sn_getF hO fX6_9 atX_90 dX6_clears_9 ?_
    refine sn_iload_n hO 1 rfl dX6_clears_12 ?_
    refine sn_iconst hO kc_0 dX6_clears_13 ?_
    refine sn_iast hO atX_91 rfl dX6_clears_14 ?_
    refine sn_nmS (fun S13 => ?_)
    refine sn_iinc hO (lv' := [(1, .int (i10 + 1)), (0, .ref (w.2.2.1 90))]) 1 rfl ki_1 (by decide) rfl dX6_clears_15 ?_
    refine sn_goto hO 2 (by decide) dX6_clears_18 ?_
    refine sn_sub [1, 0] rfl ?_
    exact hrc12 _ _
theorem ctX6_clears {w : sn_W} {S : sn_S} {Q : sn_S → Prop} (h : wpX6_clears w S Q) : sn_Ct LoX w yX6_clears (ws_ yX6_clears cX6_clears 2 none) rmX6_clears [.ref (w.2.2.1 90)] S (sn_qV Q) sn_noE := sn_Ct_of (XX_O w) (by decide) (Nat.le_of_ble_eq_true rfl) RX6 rfl (fun C hO => wkX6_clears hO S Q h)
def rmX6_left : Room := { frames := 1, cells := 0, slots := 0, locals := 21 }
/-- SnailPost$Span.left(I)I -/
def wpX6_left (w : sn_W) (p1 : Int32) (S : sn_S) (Q : Int32 → Prop) : Prop :=
  sn_lp2 (fun (rc12 : Int32 → Int32 → Prop) (i10 : Int32) (i11 : Int32) => ((i11 < 0 → Q i10) ∧ (¬ i11 < 0 → wpX0_isOf w i10 i11 (fun (r13 : Int32) => sn_jn (fun (v14 : Int32) => rc12 v14 (i11 + (-1))) (fun (k15 : Int32 → Prop) => ((r13 = 0 → k15 i10) ∧ (¬ r13 = 0 → (vp_in i11 6 ∧ (((S.1 91 (i11).toNatClampNeg) = 0 → k15 i10) ∧ (¬ (S.1 91 (i11).toNatClampNeg) = 0 → (vp_in i11 6 ∧ sn_lt (i10 ^^^ (S.1 91 (i11).toNatClampNeg)) (fun x16 => k15 x16)))))))))))) p1 5
theorem wkX6_left {w : sn_W} {C : sn_C} (hO : sn_Ok LoX w C RX6 cX6_left 4 (some .int) [] "left") (p1 : Int32) (S : sn_S) (Q : Int32 → Prop) : wpX6_left w p1 S Q → sn_G LoX w rmX6_left (sn_qI (fun r S1 => S1 = S ∧ Q r)) sn_noE C 0 0 0 [(0, .ref (w.2.2.1 90)), (1, .int p1)] [] S := by
  unfold wpX6_left
  generalize hQq : (sn_qI (fun r S1 => S1 = S ∧ Q r)) = Qq
  refine sn_iload_n hO 1 rfl dX6_left_0 ?_
  refine sn_istore_n hO (lv' := [(2, .int p1), (0, .ref (w.2.2.1 90)), (1, .int p1)]) (by decide) rfl dX6_left_1 ?_
  refine sn_iconst hO kc_5 dX6_left_2 ?_
  refine sn_istore_n hO (lv' := [(3, .int 5), (2, .int p1), (0, .ref (w.2.2.1 90)), (1, .int p1)]) (by decide) rfl dX6_left_3 ?_
  refine sn_sub [2, 1, 0] rfl ?_
  refine sn_lp2_walk (Gd := fun (i10 : Int32) (i11 : Int32) => sn_G LoX w rmX6_left Qq sn_noE C 0 0 4 [(0, .ref (w.2.2.1 90)), (2, .int i10), (3, .int i11)] [] S) ?_ _ _
  intro rc12 hrc12 i10 i11
  refine sn_iload_n hO 2 rfl dX6_left_4 ?_
  refine sn_if_lt hO 40 (by decide) dX6_left_5 ?_ ?_
  · refine sn_iload_n hO 1 rfl dX6_left_40 ?_
    subst hQq
    exact fun h => sn_iret hO rfl dX6_left_41 ⟨rfl, h⟩
  · refine sn_iload_n hO 1 rfl dX6_left_8 ?_
    refine sn_iload_n hO 2 rfl dX6_left_9 ?_
    refine sn_callSN hO (c2 := 0) (s2 := 0) (rm := rmX0_isOf) [.int i10, .int i11] csX6_15 (fun h => ctX0_isOf h) ⟨Nat.le_of_ble_eq_true rfl, Nat.le_of_ble_eq_true rfl⟩ rfl rfl (Nat.le_of_ble_eq_true rfl) ⟨Nat.le_of_ble_eq_true rfl, Nat.le_of_ble_eq_true rfl, rfl, rfl⟩ dX6_left_10 (sn_bIp (fun r13 => ?_)) sn_x0
    refine sn_jn_walk (fun (k : Int32 → Prop) => ∀ (v14 : Int32), k v14 → sn_G LoX w rmX6_left Qq sn_noE C 0 0 34 [(0, .ref (w.2.2.1 90)), (2, .int v14), (3, .int i11)] [] S) ?_ ?_
    · intro v14
      refine sn_iinc hO (lv' := [(3, .int (i11 + (-1))), (0, .ref (w.2.2.1 90)), (2, .int v14)]) 2 rfl ki_m1 (by decide) rfl dX6_left_34 ?_
      refine sn_goto hO 4 (by decide) dX6_left_37 ?_
      refine sn_sub [1, 2, 0] rfl ?_
      exact hrc12 _ _
    · intro k15 hk15
      refine sn_if_eq hO 34 (by decide) dX6_left_13 ?_ ?_
      · exact hk15 _
      · refine sn_aload_n hO 0 rfl dX6_left_16 ?_
        refine sn_getF hO fX6_9 atX_90 dX6_left_17 ?_
        refine sn_iload_n hO 2 rfl dX6_left_20 ?_
        refine sn_iald hO atX_91 rfl dX6_left_21 ?_
        refine sn_if_eq hO 34 (by decide) dX6_left_22 ?_ ?_
        · exact hk15 _
        · refine sn_iload_n hO 1 rfl dX6_left_25 ?_
          refine sn_aload_n hO 0 rfl dX6_left_26 ?_
          refine sn_getF hO fX6_9 atX_90 dX6_left_27 ?_
          refine sn_iload_n hO 2 rfl dX6_left_30 ?_
          refine sn_iald hO atX_91 rfl dX6_left_31 ?_
          refine sn_ixor hO dX6_left_32 ?_
          refine sn_nmI (fun x16 => ?_)
          refine sn_istore_n hO (lv' := [(2, .int x16), (0, .ref (w.2.2.1 90)), (3, .int i11)]) (by decide) rfl dX6_left_33 ?_
          refine sn_sub [1, 0, 2] rfl ?_
          exact hk15 _
theorem ctX6_left {w : sn_W} {p1 : Int32} {S : sn_S} {Q : Int32 → Prop} (h : wpX6_left w p1 S Q) : sn_Ct LoX w yX6_left (ws_ yX6_left cX6_left 4 (some .int)) rmX6_left [.ref (w.2.2.1 90), .int p1] S (sn_qI (fun r S1 => S1 = S ∧ Q r)) sn_noE := sn_Ct_of (XX_O w) (by decide) (Nat.le_of_ble_eq_true rfl) RX6 rfl (fun C hO => wkX6_left hO p1 S Q h)
def rmJ12_numberOfLeadingZeros : Room := { frames := 0, cells := 0, slots := 0, locals := 0 }
/-- java/lang/Integer.numberOfLeadingZeros(I)I -/
def wpJ12_numberOfLeadingZeros (w : sn_W) (p1 : Int32) (Q : Int32 → Prop) : Prop :=
  ((0 < p1 → sn_jn (fun (v10 : Int32) (v11 : Int32) => sn_jn (fun (v13 : Int32) (v14 : Int32) => sn_jn (fun (v16 : Int32) (v17 : Int32) => ((v16 < 4 → Q (v17 - (UInt32.toInt32 (Int32.toUInt32 v16 >>> (Int32.toUInt32 1 &&& Int32.toUInt32 31))))) ∧ (¬ v16 < 4 → sn_lt (UInt32.toInt32 (Int32.toUInt32 v16 >>> (Int32.toUInt32 2 &&& Int32.toUInt32 31))) (fun x19 => Q ((v17 + (-2)) - (UInt32.toInt32 (Int32.toUInt32 x19 >>> (Int32.toUInt32 1 &&& Int32.toUInt32 31)))))))) (fun (k18 : Int32 → Int32 → Prop) => ((v13 < 16 → k18 v13 v14) ∧ (¬ v13 < 16 → sn_lt (UInt32.toInt32 (Int32.toUInt32 v13 >>> (Int32.toUInt32 4 &&& Int32.toUInt32 31))) (fun x20 => k18 x20 (v14 + (-4))))))) (fun (k15 : Int32 → Int32 → Prop) => ((v10 < 256 → k15 v10 v11) ∧ (¬ v10 < 256 → sn_lt (UInt32.toInt32 (Int32.toUInt32 v10 >>> (Int32.toUInt32 8 &&& Int32.toUInt32 31))) (fun x21 => k15 x21 (v11 + (-8))))))) (fun (k12 : Int32 → Int32 → Prop) => ((p1 < 65536 → k12 p1 31) ∧ (¬ p1 < 65536 → sn_lt (UInt32.toInt32 (Int32.toUInt32 p1 >>> (Int32.toUInt32 16 &&& Int32.toUInt32 31))) (fun x22 => k12 x22 (31 + (-16))))))) ∧ (¬ 0 < p1 → ((¬ p1 = 0 → Q 0) ∧ (p1 = 0 → Q 32))))
theorem wkJ12_numberOfLeadingZeros {w : sn_W} {C : sn_C} (hO : sn_Ok LoX w C RJ12 cJ12_numberOfLeadingZeros 2 (some .int) [] "numberOfLeadingZeros") (p1 : Int32) (S : sn_S) (Q : Int32 → Prop) : wpJ12_numberOfLeadingZeros w p1 Q → sn_G LoX w rmJ12_numberOfLeadingZeros (sn_qI (fun r S1 => S1 = S ∧ Q r)) sn_noE C 0 0 0 [(0, .int p1)] [] S := by
  unfold wpJ12_numberOfLeadingZeros
  generalize hQq : (sn_qI (fun r S1 => S1 = S ∧ Q r)) = Qq
  refine sn_iload_n hO 0 rfl dJ12_numberOfLeadingZeros_0 ?_
  refine sn_if_gt hO 15 (by decide) dJ12_numberOfLeadingZeros_1 ?_ ?_
  · refine sn_bipush hO kb_31 dJ12_numberOfLeadingZeros_15 ?_
    refine sn_istore_n hO (lv' := [(1, .int 31), (0, .int p1)]) (by decide) rfl dJ12_numberOfLeadingZeros_17 ?_
    refine sn_iload_n hO 1 rfl dJ12_numberOfLeadingZeros_18 ?_
    refine sn_ldc_w hO q1307 dJ12_numberOfLeadingZeros_19 ?_
    refine sn_jn_walk (fun (k : Int32 → Int32 → Prop) => ∀ (v10 : Int32) (v11 : Int32), k v10 v11 → sn_G LoX w rmJ12_numberOfLeadingZeros Qq sn_noE C 0 0 33 [(0, .int v10), (1, .int v11)] [] S) ?_ ?_
    · intro v10 v11
      refine sn_iload_n hO 0 rfl dJ12_numberOfLeadingZeros_33 ?_
      refine sn_sipush hO ks_256 dJ12_numberOfLeadingZeros_34 ?_
      refine sn_jn_walk (fun (k : Int32 → Int32 → Prop) => ∀ (v13 : Int32) (v14 : Int32), k v13 v14 → sn_G LoX w rmJ12_numberOfLeadingZeros Qq sn_noE C 0 0 48 [(0, .int v13), (1, .int v14)] [] S) ?_ ?_
      · intro v13 v14
        refine sn_iload_n hO 0 rfl dJ12_numberOfLeadingZeros_48 ?_
        refine sn_bipush hO kb_16 dJ12_numberOfLeadingZeros_49 ?_
        refine sn_jn_walk (fun (k : Int32 → Int32 → Prop) => ∀ (v16 : Int32) (v17 : Int32), k v16 v17 → sn_G LoX w rmJ12_numberOfLeadingZeros Qq sn_noE C 0 0 61 [(0, .int v16), (1, .int v17)] [] S) ?_ ?_
        · intro v16 v17
          refine sn_iload_n hO 0 rfl dJ12_numberOfLeadingZeros_61 ?_
          refine sn_iconst hO kc_4 dJ12_numberOfLeadingZeros_62 ?_
          refine sn_icmp_lt hO 73 (by decide) dJ12_numberOfLeadingZeros_63 ?_ ?_
          · refine sn_iload_n hO 1 rfl dJ12_numberOfLeadingZeros_73 ?_
            refine sn_iload_n hO 0 rfl dJ12_numberOfLeadingZeros_74 ?_
            refine sn_iconst hO kc_1 dJ12_numberOfLeadingZeros_75 ?_
            refine sn_iushr hO dJ12_numberOfLeadingZeros_76 ?_
            refine sn_isub hO dJ12_numberOfLeadingZeros_77 ?_
            subst hQq
            exact fun h => sn_iret hO rfl dJ12_numberOfLeadingZeros_78 ⟨rfl, h⟩
          · refine sn_iinc hO (lv' := [(1, .int (v17 + (-2))), (0, .int v16)]) 1 rfl ki_m2 (by decide) rfl dJ12_numberOfLeadingZeros_66 ?_
            refine sn_iload_n hO 1 rfl dJ12_numberOfLeadingZeros_69 ?_
            refine sn_iconst hO kc_2 dJ12_numberOfLeadingZeros_70 ?_
            refine sn_iushr hO dJ12_numberOfLeadingZeros_71 ?_
            refine sn_nmI (fun x19 => ?_)
            refine sn_istore_n hO (lv' := [(0, .int x19), (1, .int (v17 + (-2)))]) (by decide) rfl dJ12_numberOfLeadingZeros_72 ?_
            refine sn_iload_n hO 1 rfl dJ12_numberOfLeadingZeros_73 ?_
            refine sn_iload_n hO 0 rfl dJ12_numberOfLeadingZeros_74 ?_
            refine sn_iconst hO kc_1 dJ12_numberOfLeadingZeros_75 ?_
            refine sn_iushr hO dJ12_numberOfLeadingZeros_76 ?_
            refine sn_isub hO dJ12_numberOfLeadingZeros_77 ?_
            subst hQq
            exact fun h => sn_iret hO rfl dJ12_numberOfLeadingZeros_78 ⟨rfl, h⟩
        · intro k18 hk18
          refine sn_icmp_lt hO 61 (by decide) dJ12_numberOfLeadingZeros_51 ?_ ?_
          · exact hk18 _ _
          · refine sn_iinc hO (lv' := [(1, .int (v14 + (-4))), (0, .int v13)]) 1 rfl ki_m4 (by decide) rfl dJ12_numberOfLeadingZeros_54 ?_
            refine sn_iload_n hO 1 rfl dJ12_numberOfLeadingZeros_57 ?_
            refine sn_iconst hO kc_4 dJ12_numberOfLeadingZeros_58 ?_
            refine sn_iushr hO dJ12_numberOfLeadingZeros_59 ?_
            refine sn_nmI (fun x20 => ?_)
            refine sn_istore_n hO (lv' := [(0, .int x20), (1, .int (v14 + (-4)))]) (by decide) rfl dJ12_numberOfLeadingZeros_60 ?_
            exact hk18 _ _
      · intro k15 hk15
        refine sn_icmp_lt hO 48 (by decide) dJ12_numberOfLeadingZeros_37 ?_ ?_
        · exact hk15 _ _
        · refine sn_iinc hO (lv' := [(1, .int (v11 + (-8))), (0, .int v10)]) 1 rfl ki_m8 (by decide) rfl dJ12_numberOfLeadingZeros_40 ?_
          refine sn_iload_n hO 1 rfl dJ12_numberOfLeadingZeros_43 ?_
          refine sn_bipush hO kb_8 dJ12_numberOfLeadingZeros_44 ?_
          refine sn_iushr hO dJ12_numberOfLeadingZeros_46 ?_
          refine sn_nmI (fun x21 => ?_)
          refine sn_istore_n hO (lv' := [(0, .int x21), (1, .int (v11 + (-8)))]) (by decide) rfl dJ12_numberOfLeadingZeros_47 ?_
          exact hk15 _ _
    · intro k12 hk12
      refine sn_icmp_lt hO 33 (by decide) dJ12_numberOfLeadingZeros_22 ?_ ?_
      · refine sn_sub [1, 0] rfl ?_
        exact hk12 _ _
      · refine sn_iinc hO (lv' := [(1, .int (31 + (-16))), (0, .int p1)]) 0 rfl ki_m16 (by decide) rfl dJ12_numberOfLeadingZeros_25 ?_
        refine sn_iload_n hO 1 rfl dJ12_numberOfLeadingZeros_28 ?_
        refine sn_bipush hO kb_16 dJ12_numberOfLeadingZeros_29 ?_
        refine sn_iushr hO dJ12_numberOfLeadingZeros_31 ?_
        refine sn_nmI (fun x22 => ?_)
        refine sn_istore_n hO (lv' := [(0, .int x22), (1, .int (31 + (-16)))]) (by decide) rfl dJ12_numberOfLeadingZeros_32 ?_
        exact hk12 _ _
  · refine sn_iload_n hO 0 rfl dJ12_numberOfLeadingZeros_4 ?_
    refine sn_if_ne hO 13 (by decide) dJ12_numberOfLeadingZeros_5 ?_ ?_
    · refine sn_iconst hO kc_0 dJ12_numberOfLeadingZeros_13 ?_
      subst hQq
      exact fun h => sn_iret hO rfl dJ12_numberOfLeadingZeros_14 ⟨rfl, h⟩
    · refine sn_bipush hO kb_32 dJ12_numberOfLeadingZeros_8 ?_
      refine sn_goto hO 14 (by decide) dJ12_numberOfLeadingZeros_10 ?_
      subst hQq
      exact fun h => sn_iret hO rfl dJ12_numberOfLeadingZeros_14 ⟨rfl, h⟩
theorem ctJ12_numberOfLeadingZeros {w : sn_W} {p1 : Int32} {S : sn_S} {Q : Int32 → Prop} (h : wpJ12_numberOfLeadingZeros w p1 Q) : sn_Ct LoX w yJ12_numberOfLeadingZeros (ws_ yJ12_numberOfLeadingZeros cJ12_numberOfLeadingZeros 2 (some .int)) rmJ12_numberOfLeadingZeros [.int p1] S (sn_qI (fun r S1 => S1 = S ∧ Q r)) sn_noE := sn_Ct_of (XX_O w) (by decide) (Nat.le_of_ble_eq_true rfl) RJ12 rfl (fun C hO => wkJ12_numberOfLeadingZeros hO p1 S Q h)
def rmX6_adds : Room := { frames := 2, cells := 0, slots := 0, locals := 44 }
/-- SnailPost$Span.adds(I)V -/
def wpX6_adds (w : sn_W) (p1 : Int32) (S : sn_S) (Q : sn_S → Prop) : Prop :=
  wpX6_left w p1 S (fun (r10 : Int32) => ((r10 = 0 → Q S) ∧ (¬ r10 = 0 → wpJ12_numberOfLeadingZeros w r10 (fun (r11 : Int32) => (vp_in (31 - r11) 6 ∧ sn_lt (sn_pI S 91 ((31 - r11)).toNatClampNeg r10) (fun S12 => Q S12))))))
theorem wkX6_adds {w : sn_W} {C : sn_C} (hO : sn_Ok LoX w C RX6 cX6_adds 3 none [] "adds") (p1 : Int32) (S : sn_S) (Q : sn_S → Prop) : wpX6_adds w p1 S Q → sn_G LoX w rmX6_adds (sn_qV Q) sn_noE C 0 0 0 [(0, .ref (w.2.2.1 90)), (1, .int p1)] [] S := by
  unfold wpX6_adds
  generalize hQq : (sn_qV Q) = Qq
  refine sn_aload_n hO 0 rfl dX6_adds_0 ?_
  refine sn_iload_n hO 1 rfl dX6_adds_1 ?_
  refine sn_callV hO (c2 := 0) (s2 := 0) (rm := rmX6_left) [.int p1] cvX6_19 (fun _ => sn_Rv_K atX_90) (fun h => ctX6_left h) ⟨Nat.le_of_ble_eq_true rfl, Nat.le_of_ble_eq_true rfl⟩ rfl rfl (Nat.le_of_ble_eq_true rfl) ⟨Nat.le_of_ble_eq_true rfl, Nat.le_of_ble_eq_true rfl, rfl, rfl⟩ dX6_adds_2 (sn_bIp (fun r10 => ?_)) sn_x0
  refine sn_istore_n hO (lv' := [(2, .int r10), (0, .ref (w.2.2.1 90)), (1, .int p1)]) (by decide) rfl dX6_adds_5 ?_
  refine sn_iload_n hO 0 rfl dX6_adds_6 ?_
  refine sn_if_eq hO 23 (by decide) dX6_adds_7 ?_ ?_
  · subst hQq
    exact sn_vret hO rfl dX6_adds_23
  · refine sn_aload_n hO 1 rfl dX6_adds_10 ?_
    refine sn_getF hO fX6_9 atX_90 dX6_adds_11 ?_
    refine sn_bipush hO kb_31 dX6_adds_14 ?_
    refine sn_iload_n hO 0 rfl dX6_adds_16 ?_
    refine sn_callS hO (c2 := 0) (s2 := 0) (rm := rmJ12_numberOfLeadingZeros) [.int r10] csX6_23 (fun h => ctJ12_numberOfLeadingZeros h) ⟨Nat.le_of_ble_eq_true rfl, Nat.le_of_ble_eq_true rfl⟩ rfl rfl (Nat.le_of_ble_eq_true rfl) ⟨Nat.le_of_ble_eq_true rfl, Nat.le_of_ble_eq_true rfl, rfl, rfl⟩ dX6_adds_17 (sn_bIp (fun r11 => ?_)) sn_x0
    refine sn_isub hO dX6_adds_20 ?_
    refine sn_iload_n hO 0 rfl dX6_adds_21 ?_
    refine sn_iast hO atX_91 rfl dX6_adds_22 ?_
    refine sn_nmS (fun S12 => ?_)
    subst hQq
    exact sn_vret hO rfl dX6_adds_23
theorem ctX6_adds {w : sn_W} {p1 : Int32} {S : sn_S} {Q : sn_S → Prop} (h : wpX6_adds w p1 S Q) : sn_Ct LoX w yX6_adds (ws_ yX6_adds cX6_adds 3 none) rmX6_adds [.ref (w.2.2.1 90), .int p1] S (sn_qV Q) sn_noE := sn_Ct_of (XX_O w) (by decide) (Nat.le_of_ble_eq_true rfl) RX6 rfl (fun C hO => wkX6_adds hO p1 S Q h)
def rmX6_tells : Room := { frames := 2, cells := 0, slots := 0, locals := 44 }
/-- SnailPost$Span.tells(I)Z -/
def wpX6_tells (w : sn_W) (p1 : Int32) (S : sn_S) (Q : Int32 → Prop) : Prop :=
  sn_lp1 (fun (rc11 : Int32 → Prop) (i10 : Int32) => ((p1 ≤ i10 → Q 1) ∧ (¬ p1 ≤ i10 → wpX6_left w (1 <<< (i10 &&& 31)) S (fun (r12 : Int32) => ((r12 = 0 → rc11 (i10 + 1)) ∧ (¬ r12 = 0 → Q 0)))))) 0
theorem wkX6_tells {w : sn_W} {C : sn_C} (hO : sn_Ok LoX w C RX6 cX6_tells 3 (some .boolean) [] "tells") (p1 : Int32) (S : sn_S) (Q : Int32 → Prop) : wpX6_tells w p1 S Q → sn_G LoX w rmX6_tells (sn_qI (fun r S1 => S1 = S ∧ Q r)) sn_noE C 0 0 0 [(0, .ref (w.2.2.1 90)), (1, .int p1)] [] S := by
  unfold wpX6_tells
  generalize hQq : (sn_qI (fun r S1 => S1 = S ∧ Q r)) = Qq
  refine sn_iconst hO kc_0 dX6_tells_0 ?_
  refine sn_istore_n hO (lv' := [(2, .int 0), (0, .ref (w.2.2.1 90)), (1, .int p1)]) (by decide) rfl dX6_tells_1 ?_
  refine sn_sub [1, 2, 0] rfl ?_
  refine sn_lp1_walk (Gd := fun (i10 : Int32) => sn_G LoX w rmX6_tells Qq sn_noE C 0 0 2 [(0, .ref (w.2.2.1 90)), (1, .int p1), (2, .int i10)] [] S) ?_ _
  intro rc11 hrc11 i10
  refine sn_iload_n hO 2 rfl dX6_tells_2 ?_
  refine sn_iload_n hO 1 rfl dX6_tells_3 ?_
  refine sn_icmp_ge hO 25 (by decide) dX6_tells_4 ?_ ?_
  · refine sn_iconst hO kc_1 dX6_tells_25 ?_
    subst hQq
    exact fun h => sn_zret hO (ty := .boolean) rfl rfl dX6_tells_26 ⟨rfl, h⟩
  · refine sn_aload_n hO 0 rfl dX6_tells_7 ?_
    refine sn_iconst hO kc_1 dX6_tells_8 ?_
    refine sn_iload_n hO 2 rfl dX6_tells_9 ?_
    refine sn_ishl hO dX6_tells_10 ?_
    refine sn_callV hO (c2 := 0) (s2 := 0) (rm := rmX6_left) [.int (1 <<< (i10 &&& 31))] cvX6_19 (fun _ => sn_Rv_K atX_90) (fun h => ctX6_left h) ⟨Nat.le_of_ble_eq_true rfl, Nat.le_of_ble_eq_true rfl⟩ rfl rfl (Nat.le_of_ble_eq_true rfl) ⟨Nat.le_of_ble_eq_true rfl, Nat.le_of_ble_eq_true rfl, rfl, rfl⟩ dX6_tells_11 (sn_bIp (fun r12 => ?_)) sn_x0
    refine sn_if_eq hO 19 (by decide) dX6_tells_14 ?_ ?_
    · refine sn_iinc hO (lv' := [(2, .int (i10 + 1)), (0, .ref (w.2.2.1 90)), (1, .int p1)]) 2 rfl ki_1 (by decide) rfl dX6_tells_19 ?_
      refine sn_goto hO 2 (by decide) dX6_tells_22 ?_
      refine sn_sub [1, 2, 0] rfl ?_
      exact hrc11 _
    · refine sn_iconst hO kc_0 dX6_tells_17 ?_
      subst hQq
      exact fun h => sn_zret hO (ty := .boolean) rfl rfl dX6_tells_18 ⟨rfl, h⟩
theorem ctX6_tells {w : sn_W} {p1 : Int32} {S : sn_S} {Q : Int32 → Prop} (h : wpX6_tells w p1 S Q) : sn_Ct LoX w yX6_tells (ws_ yX6_tells cX6_tells 3 (some .boolean)) rmX6_tells [.ref (w.2.2.1 90), .int p1] S (sn_qI (fun r S1 => S1 = S ∧ Q r)) sn_noE := sn_Ct_of (XX_O w) (by decide) (Nat.le_of_ble_eq_true rfl) RX6 rfl (fun C hO => wkX6_tells hO p1 S Q h)
def rmX0_isRead : Room := { frames := 3, cells := 0, slots := 0, locals := 66 }
/-- SnailPost.isRead(I)Z -/
def wpX0_isRead (w : sn_W) (p1 : Int32) (S : sn_S) (Q : Int32 → sn_S → Prop) : Prop :=
  wpX6_clears w S (fun (S10 : sn_S) => sn_jn (fun (S11 : sn_S) => (vp_in 0 2 ∧ wpX6_tells w (S11.1 7 (0 : Int32).toNatClampNeg) S11 (fun (r13 : Int32) => (narrow .boolean (.int r13) = .int r13 ∧ Q r13 S11)))) (fun (k12 : sn_S → Prop) => sn_lp2 (fun (rc16 : Int32 → sn_S → Prop) (i14 : Int32) (S15 : sn_S) => (((S15.1 2 8) ≤ i14 → k12 S15) ∧ (¬ (S15.1 2 8) ≤ i14 → wpX0_isOf w p1 i14 (fun (r17 : Int32) => sn_jn (fun (S18 : sn_S) => rc16 (i14 + 1) S18) (fun (k19 : sn_S → Prop) => ((r17 = 0 → k19 S15) ∧ (¬ r17 = 0 → wpX0_of0 w i14 5 S15 (fun (r20 : Int32) => wpX6_adds w r20 S15 (fun (S21 : sn_S) => k19 S21))))))))) 0 S10))
theorem wkX0_isRead {w : sn_W} {C : sn_C} (hO : sn_Ok LoX w C RX0 cX0_isRead 3 (some .boolean) [] "isRead") (p1 : Int32) (S : sn_S) (Q : Int32 → sn_S → Prop) : wpX0_isRead w p1 S Q → sn_G LoX w rmX0_isRead (sn_qI Q) sn_noE C 0 0 0 [(0, .ref (w.2.2.1 0)), (1, .int p1)] [] S := by
  unfold wpX0_isRead
  generalize hQq : (sn_qI Q) = Qq
  refine sn_aload_n hO 0 rfl dX0_isRead_0 ?_
  refine sn_getF hO fX0_73 atX_0 dX0_isRead_1 ?_
  refine sn_callV hO (c2 := 0) (s2 := 0) (rm := rmX6_clears) [] cvX0_298 (fun _ => sn_Rv_K atX_90) (fun h => ctX6_clears h) ⟨Nat.le_of_ble_eq_true rfl, Nat.le_of_ble_eq_true rfl⟩ rfl rfl (Nat.le_of_ble_eq_true rfl) ⟨Nat.le_of_ble_eq_true rfl, Nat.le_of_ble_eq_true rfl, rfl, rfl⟩ dX0_isRead_4 (sn_bV (fun S10 => ?_)) sn_x0
  refine sn_iconst hO kc_0 dX0_isRead_7 ?_
  refine sn_istore_n hO (lv' := [(2, .int 0), (0, .ref (w.2.2.1 0)), (1, .int p1)]) (by decide) rfl dX0_isRead_8 ?_
  refine sn_jn_walk (fun (k : sn_S → Prop) => ∀ (S11 : sn_S), k S11 → sn_G LoX w rmX0_isRead Qq sn_noE C 0 0 47 [(0, .ref (w.2.2.1 0))] [] S11) ?_ ?_
  · intro S11
    refine sn_aload_n hO 0 rfl dX0_isRead_47 ?_
    refine sn_getF hO fX0_73 atX_0 dX0_isRead_48 ?_
    refine sn_aload_n hO 0 rfl dX0_isRead_51 ?_
    refine sn_getF hO fX0_16 atX_0 dX0_isRead_52 ?_
    refine sn_getFN hO fX0_173 atX_2 dX0_isRead_55 ?_
    refine sn_iconst hO kc_0 dX0_isRead_58 ?_
    refine sn_iald hO atX_7 rfl dX0_isRead_59 ?_
    refine sn_callV hO (c2 := 0) (s2 := 0) (rm := rmX6_tells) [.int (S11.1 7 (0 : Int32).toNatClampNeg)] cvX0_307 (fun _ => sn_Rv_K atX_90) (fun h => ctX6_tells h) ⟨Nat.le_of_ble_eq_true rfl, Nat.le_of_ble_eq_true rfl⟩ rfl rfl (Nat.le_of_ble_eq_true rfl) ⟨Nat.le_of_ble_eq_true rfl, Nat.le_of_ble_eq_true rfl, rfl, rfl⟩ dX0_isRead_60 (sn_bIp (fun r13 => ?_)) sn_x0
    subst hQq
    exact sn_zretP hO rfl dX0_isRead_63
  · intro k12 hk12
    refine sn_sub [1, 2, 0] rfl ?_
    refine sn_lp2_walk (Gd := fun (i14 : Int32) (S15 : sn_S) => sn_G LoX w rmX0_isRead Qq sn_noE C 0 0 9 [(0, .ref (w.2.2.1 0)), (1, .int p1), (2, .int i14)] [] S15) ?_ _ _
    intro rc16 hrc16 i14 S15
    refine sn_iload_n hO 2 rfl dX0_isRead_9 ?_
    refine sn_aload_n hO 0 rfl dX0_isRead_10 ?_
    refine sn_getF hO fX0_16 atX_0 dX0_isRead_11 ?_
    refine sn_getIN hO fX0_116 atX_2 dX0_isRead_14 ?_
    refine sn_icmp_ge hO 47 (by decide) dX0_isRead_17 ?_ ?_
    · refine sn_sub [0] rfl ?_
      exact hk12 _
    · refine sn_iload_n hO 1 rfl dX0_isRead_20 ?_
      refine sn_iload_n hO 2 rfl dX0_isRead_21 ?_
      refine sn_callS hO (c2 := 0) (s2 := 0) (rm := rmX0_isOf) [.int p1, .int i14] csX0_301 (fun h => ctX0_isOf h) ⟨Nat.le_of_ble_eq_true rfl, Nat.le_of_ble_eq_true rfl⟩ rfl rfl (Nat.le_of_ble_eq_true rfl) ⟨Nat.le_of_ble_eq_true rfl, Nat.le_of_ble_eq_true rfl, rfl, rfl⟩ dX0_isRead_22 (sn_bIp (fun r17 => ?_)) sn_x0
      refine sn_jn_walk (fun (k : sn_S → Prop) => ∀ (S18 : sn_S), k S18 → sn_G LoX w rmX0_isRead Qq sn_noE C 0 0 41 [(0, .ref (w.2.2.1 0)), (1, .int p1), (2, .int i14)] [] S18) ?_ ?_
      · intro S18
        refine sn_iinc hO (lv' := [(2, .int (i14 + 1)), (0, .ref (w.2.2.1 0)), (1, .int p1)]) 2 rfl ki_1 (by decide) rfl dX0_isRead_41 ?_
        refine sn_goto hO 9 (by decide) dX0_isRead_44 ?_
        refine sn_sub [1, 2, 0] rfl ?_
        exact hrc16 _ _
      · intro k19 hk19
        refine sn_if_eq hO 41 (by decide) dX0_isRead_25 ?_ ?_
        · exact hk19 _
        · refine sn_aload_n hO 0 rfl dX0_isRead_28 ?_
          refine sn_getF hO fX0_73 atX_0 dX0_isRead_29 ?_
          refine sn_aload_n hO 0 rfl dX0_isRead_32 ?_
          refine sn_iload_n hO 2 rfl dX0_isRead_33 ?_
          refine sn_iconst hO kc_5 dX0_isRead_34 ?_
          refine sn_callV hO (c2 := 0) (s2 := 0) (rm := rmX0_of0) [.int i14, .int 5] cvX0_143 (fun _ => sn_Rv_K atX_0) (fun h => ctX0_of0 h) ⟨Nat.le_of_ble_eq_true rfl, Nat.le_of_ble_eq_true rfl⟩ rfl rfl (Nat.le_of_ble_eq_true rfl) ⟨Nat.le_of_ble_eq_true rfl, Nat.le_of_ble_eq_true rfl, rfl, rfl⟩ dX0_isRead_35 (sn_bIp (fun r20 => ?_)) sn_x0
          refine sn_callV hO (c2 := 0) (s2 := 0) (rm := rmX6_adds) [.int r20] cvX0_304 (fun _ => sn_Rv_K atX_90) (fun h => ctX6_adds h) ⟨Nat.le_of_ble_eq_true rfl, Nat.le_of_ble_eq_true rfl⟩ rfl rfl (Nat.le_of_ble_eq_true rfl) ⟨Nat.le_of_ble_eq_true rfl, Nat.le_of_ble_eq_true rfl, rfl, rfl⟩ dX0_isRead_38 (sn_bV (fun S21 => ?_)) sn_x0
          exact hk19 _
theorem ctX0_isRead {w : sn_W} {p1 : Int32} {S : sn_S} {Q : Int32 → sn_S → Prop} (h : wpX0_isRead w p1 S Q) : sn_Ct LoX w yX0_isRead (ws_ yX0_isRead cX0_isRead 3 (some .boolean)) rmX0_isRead [.ref (w.2.2.1 0), .int p1] S (sn_qI Q) sn_noE := sn_Ct_of (XX_O w) (by decide) (Nat.le_of_ble_eq_true rfl) RX0 rfl (fun C hO => wkX0_isRead hO p1 S Q h)
def rmX0_read : Room := { frames := 4, cells := 0, slots := 0, locals := 88 }
/-- SnailPost.read(I)I -/
def wpX0_read (w : sn_W) (p1 : Int32) (S : sn_S) (Q : Int32 → sn_S → Prop) : Prop :=
  wpX0_everyone w S (fun (r10 : Int32) => wpX0_in w p1 0 r10 (fun (r11 : Int32) => ((r11 = 0 → Q (-1) S) ∧ (¬ r11 = 0 → wpX0_isRead w p1 S (fun (r12 : Int32) (S13 : sn_S) => ((r12 = 0 → Q 0 S13) ∧ (¬ r12 = 0 → Q 1 S13)))))))
theorem wkX0_read {w : sn_W} {C : sn_C} (hO : sn_Ok LoX w C RX0 cX0_read 2 (some .int) [] "read") (p1 : Int32) (S : sn_S) (Q : Int32 → sn_S → Prop) : wpX0_read w p1 S Q → sn_G LoX w rmX0_read (sn_qI Q) sn_noE C 0 0 0 [(0, .ref (w.2.2.1 0)), (1, .int p1)] [] S := by
  unfold wpX0_read
  generalize hQq : (sn_qI Q) = Qq
  refine sn_iload_n hO 1 rfl dX0_read_0 ?_
  refine sn_iconst hO kc_0 dX0_read_1 ?_
  refine sn_aload_n hO 0 rfl dX0_read_2 ?_
  refine sn_callV hO (c2 := 0) (s2 := 0) (rm := rmX0_everyone) [] cvX0_257 (fun _ => sn_Rv_K atX_0) (fun h => ctX0_everyone h) ⟨Nat.le_of_ble_eq_true rfl, Nat.le_of_ble_eq_true rfl⟩ rfl rfl (Nat.le_of_ble_eq_true rfl) ⟨Nat.le_of_ble_eq_true rfl, Nat.le_of_ble_eq_true rfl, rfl, rfl⟩ dX0_read_3 (sn_bIp (fun r10 => ?_)) sn_x0
  refine sn_callS hO (c2 := 0) (s2 := 0) (rm := rmX0_in) [.int p1, .int 0, .int r10] csX0_112 (fun h => ctX0_in h) ⟨Nat.le_of_ble_eq_true rfl, Nat.le_of_ble_eq_true rfl⟩ rfl rfl (Nat.le_of_ble_eq_true rfl) ⟨Nat.le_of_ble_eq_true rfl, Nat.le_of_ble_eq_true rfl, rfl, rfl⟩ dX0_read_6 (sn_bIp (fun r11 => ?_)) sn_x0
  refine sn_if_eq hO 28 (by decide) dX0_read_9 ?_ ?_
  · refine sn_iconst hO kc_m1 dX0_read_28 ?_
    subst hQq
    exact sn_iret hO rfl dX0_read_29
  · refine sn_aload_n hO 0 rfl dX0_read_12 ?_
    refine sn_iload_n hO 1 rfl dX0_read_13 ?_
    refine sn_callV hO (c2 := 0) (s2 := 0) (rm := rmX0_isRead) [.int p1] cvX0_310 (fun _ => sn_Rv_K atX_0) (fun h => ctX0_isRead h) ⟨Nat.le_of_ble_eq_true rfl, Nat.le_of_ble_eq_true rfl⟩ rfl rfl (Nat.le_of_ble_eq_true rfl) ⟨Nat.le_of_ble_eq_true rfl, Nat.le_of_ble_eq_true rfl, rfl, rfl⟩ dX0_read_14 (sn_bI (fun r12 S13 => ?_)) sn_x0
    refine sn_if_eq hO 24 (by decide) dX0_read_17 ?_ ?_
    · refine sn_iconst hO kc_0 dX0_read_24 ?_
      refine sn_goto hO 29 (by decide) dX0_read_25 ?_
      subst hQq
      exact sn_iret hO rfl dX0_read_29
    · refine sn_iconst hO kc_1 dX0_read_20 ?_
      refine sn_goto hO 29 (by decide) dX0_read_21 ?_
      subst hQq
      exact sn_iret hO rfl dX0_read_29
theorem ctX0_read {w : sn_W} {p1 : Int32} {S : sn_S} {Q : Int32 → sn_S → Prop} (h : wpX0_read w p1 S Q) : sn_Ct LoX w yX0_read (ws_ yX0_read cX0_read 2 (some .int)) rmX0_read [.ref (w.2.2.1 0), .int p1] S (sn_qI Q) sn_noE := sn_Ct_of (XX_O w) (by decide) (Nat.le_of_ble_eq_true rfl) RX0 rfl (fun C hO => wkX0_read hO p1 S Q h)
def rmX0_safe : Room := { frames := 4, cells := 0, slots := 0, locals := 88 }
/-- SnailPost.safe()I -/
def wpX0_safe (w : sn_W) (S : sn_S) (Q : Int32 → sn_S → Prop) : Prop :=
  sn_lt (S.1 2 8) (fun x10 => sn_lp3 (fun (rc14 : Int32 → Int32 → sn_S → Prop) (i11 : Int32) (i12 : Int32) (S13 : sn_S) => wpX0_everyone w S13 (fun (r15 : Int32) => ((r15 < i12 → Q i11 S13) ∧ (¬ r15 < i12 → wpX0_isRead w i12 S13 (fun (r16 : Int32) (S17 : sn_S) => sn_jn (fun (v18 : Int32) => rc14 v18 (i12 + 1) S17) (fun (k19 : Int32 → Prop) => ((¬ r16 = 0 → k19 i11) ∧ (r16 = 0 → wpX0_ones w i12 (fun (r20 : Int32) => sn_lt (if (((S17.1 2 8) - r20) - 1) < i11 then (((S17.1 2 8) - r20) - 1) else i11) (fun x21 => k19 x21)))))))))) x10 0 S)
theorem wkX0_safe {w : sn_W} {C : sn_C} (hO : sn_Ok LoX w C RX0 cX0_safe 3 (some .int) [] "safe") (S : sn_S) (Q : Int32 → sn_S → Prop) : wpX0_safe w S Q → sn_G LoX w rmX0_safe (sn_qI Q) sn_noE C 0 0 0 [(0, .ref (w.2.2.1 0))] [] S := by
  unfold wpX0_safe
  generalize hQq : (sn_qI Q) = Qq
  refine sn_aload_n hO 0 rfl dX0_safe_0 ?_
  refine sn_getF hO fX0_16 atX_0 dX0_safe_1 ?_
  refine sn_getIN hO fX0_116 atX_2 dX0_safe_4 ?_
  refine sn_nmI (fun x10 => ?_)
  refine sn_istore_n hO (lv' := [(1, .int x10), (0, .ref (w.2.2.1 0))]) (by decide) rfl dX0_safe_7 ?_
  refine sn_iconst hO kc_0 dX0_safe_8 ?_
  refine sn_istore_n hO (lv' := [(2, .int 0), (1, .int x10), (0, .ref (w.2.2.1 0))]) (by decide) rfl dX0_safe_9 ?_
  refine sn_sub [2, 1, 0] rfl ?_
  refine sn_lp3_walk (Gd := fun (i11 : Int32) (i12 : Int32) (S13 : sn_S) => sn_G LoX w rmX0_safe Qq sn_noE C 0 0 10 [(0, .ref (w.2.2.1 0)), (1, .int i11), (2, .int i12)] [] S13) ?_ _ _ _
  intro rc14 hrc14 i11 i12 S13
  refine sn_iload_n hO 2 rfl dX0_safe_10 ?_
  refine sn_aload_n hO 0 rfl dX0_safe_11 ?_
  refine sn_callV hO (c2 := 0) (s2 := 0) (rm := rmX0_everyone) [] cvX0_257 (fun _ => sn_Rv_K atX_0) (fun h => ctX0_everyone h) ⟨Nat.le_of_ble_eq_true rfl, Nat.le_of_ble_eq_true rfl⟩ rfl rfl (Nat.le_of_ble_eq_true rfl) ⟨Nat.le_of_ble_eq_true rfl, Nat.le_of_ble_eq_true rfl, rfl, rfl⟩ dX0_safe_12 (sn_bIp (fun r15 => ?_)) sn_x0
  refine sn_icmp_gt hO 51 (by decide) dX0_safe_15 ?_ ?_
  · refine sn_iload_n hO 1 rfl dX0_safe_51 ?_
    subst hQq
    exact sn_iret hO rfl dX0_safe_52
  · refine sn_aload_n hO 0 rfl dX0_safe_18 ?_
    refine sn_iload_n hO 2 rfl dX0_safe_19 ?_
    refine sn_callV hO (c2 := 0) (s2 := 0) (rm := rmX0_isRead) [.int i12] cvX0_310 (fun _ => sn_Rv_K atX_0) (fun h => ctX0_isRead h) ⟨Nat.le_of_ble_eq_true rfl, Nat.le_of_ble_eq_true rfl⟩ rfl rfl (Nat.le_of_ble_eq_true rfl) ⟨Nat.le_of_ble_eq_true rfl, Nat.le_of_ble_eq_true rfl, rfl, rfl⟩ dX0_safe_20 (sn_bI (fun r16 S17 => ?_)) sn_x0
    refine sn_jn_walk (fun (k : Int32 → Prop) => ∀ (v18 : Int32), k v18 → sn_G LoX w rmX0_safe Qq sn_noE C 0 0 45 [(0, .ref (w.2.2.1 0)), (1, .int v18), (2, .int i12)] [] S17) ?_ ?_
    · intro v18
      refine sn_iinc hO (lv' := [(2, .int (i12 + 1)), (0, .ref (w.2.2.1 0)), (1, .int v18)]) 2 rfl ki_1 (by decide) rfl dX0_safe_45 ?_
      refine sn_goto hO 10 (by decide) dX0_safe_48 ?_
      refine sn_sub [1, 2, 0] rfl ?_
      exact hrc14 _ _ _
    · intro k19 hk19
      refine sn_if_ne hO 45 (by decide) dX0_safe_23 ?_ ?_
      · exact hk19 _
      · refine sn_iload_n hO 1 rfl dX0_safe_26 ?_
        refine sn_aload_n hO 0 rfl dX0_safe_27 ?_
        refine sn_getF hO fX0_16 atX_0 dX0_safe_28 ?_
        refine sn_getIN hO fX0_116 atX_2 dX0_safe_31 ?_
        refine sn_iload_n hO 2 rfl dX0_safe_34 ?_
        refine sn_callS hO (c2 := 0) (s2 := 0) (rm := rmX0_ones) [.int i12] csX0_313 (fun h => ctX0_ones h) ⟨Nat.le_of_ble_eq_true rfl, Nat.le_of_ble_eq_true rfl⟩ rfl rfl (Nat.le_of_ble_eq_true rfl) ⟨Nat.le_of_ble_eq_true rfl, Nat.le_of_ble_eq_true rfl, rfl, rfl⟩ dX0_safe_35 (sn_bIp (fun r20 => ?_)) sn_x0
        refine sn_isub hO dX0_safe_38 ?_
        refine sn_iconst hO kc_1 dX0_safe_39 ?_
        refine sn_isub hO dX0_safe_40 ?_
        refine sn_mMin hO q1317 q647 q134 q648 ⟨Nat.le_of_ble_eq_true rfl, Nat.le_of_ble_eq_true rfl⟩ dX0_safe_41 ?_
        refine sn_nmI (fun x21 => ?_)
        refine sn_istore_n hO (lv' := [(1, .int x21), (0, .ref (w.2.2.1 0)), (2, .int i12)]) (by decide) rfl dX0_safe_44 ?_
        refine sn_sub [1, 0, 2] rfl ?_
        exact hk19 _
theorem ctX0_safe {w : sn_W} {S : sn_S} {Q : Int32 → sn_S → Prop} (h : wpX0_safe w S Q) : sn_Ct LoX w yX0_safe (ws_ yX0_safe cX0_safe 3 (some .int)) rmX0_safe [.ref (w.2.2.1 0)] S (sn_qI Q) sn_noE := sn_Ct_of (XX_O w) (by decide) (Nat.le_of_ble_eq_true rfl) RX0 rfl (fun C hO => wkX0_safe hO S Q h)
def rmX0_oddsOf : Room := { frames := 4, cells := 0, slots := 0, locals := 88 }
/-- SnailPost.oddsOf(I)J -/
def wpX0_oddsOf (w : sn_W) (p1 : Int32) (S : sn_S) (Q : Int64 → sn_S → Prop) : Prop :=
  sn_lp3 (fun (rc13 : Int64 → Int32 → sn_S → Prop) (i10 : Int64) (i11 : Int32) (S12 : sn_S) => ((p1 < i11 → Q i10 S12) ∧ (¬ p1 < i11 → sn_jn (fun (v14 : Int64) (S15 : sn_S) => rc13 v14 (i11 + 1) S15) (fun (k16 : Int64 → sn_S → Prop) => ((¬ (i11 &&& (p1 ^^^ (-1))) = 0 → k16 i10 S12) ∧ ((i11 &&& (p1 ^^^ (-1))) = 0 → wpX0_isRead w i11 S12 (fun (r17 : Int32) (S18 : sn_S) => ((¬ r17 = 0 → sn_jn (fun (v19 : Int64) => sn_lt (i10 + v19) (fun x21 => k16 x21 S18)) (fun (k20 : Int64 → Prop) => sn_lp2 (fun (rc24 : Int64 → Int32 → Prop) (i22 : Int64) (i23 : Int32) => (((S18.1 2 8) ≤ i23 → k20 i22) ∧ (¬ (S18.1 2 8) ≤ i23 → wpX0_isOf w p1 i23 (fun (r25 : Int32) => sn_jn (fun (v26 : Int64) => rc24 v26 (i23 + 1)) (fun (k27 : Int64 → Prop) => ((r25 = 0 → k27 i22) ∧ (¬ r25 = 0 → wpX0_isOf w i11 i23 (fun (r28 : Int32) => sn_jn (fun (v29 : Int64) => sn_lt (i22 * v29) (fun x31 => k27 x31)) (fun (k30 : Int64 → Prop) => ((r28 = 0 → wpX0_of0 w i23 4 S18 (fun (r32 : Int32) => k30 (Int32.toInt64 r32))) ∧ (¬ r28 = 0 → wpX0_of0 w i23 4 S18 (fun (r33 : Int32) => k30 (Int32.toInt64 (100 - r33)))))))))))))) 1 0)) ∧ (r17 = 0 → k16 i10 S18))))))))) 0 0 S
theorem wkX0_oddsOf {w : sn_W} {C : sn_C} (hO : sn_Ok LoX w C RX0 cX0_oddsOf 8 (some .long) [] "oddsOf") (p1 : Int32) (S : sn_S) (Q : Int64 → sn_S → Prop) : wpX0_oddsOf w p1 S Q → sn_G LoX w rmX0_oddsOf (sn_qL Q) sn_noE C 0 0 0 [(0, .ref (w.2.2.1 0)), (1, .int p1)] [] S := by
  unfold wpX0_oddsOf
  generalize hQq : (sn_qL Q) = Qq
  refine sn_lconst hO (v := 0) rfl dX0_oddsOf_0 ?_
  refine sn_lstore_n hO (lv' := [(2, .long 0), (0, .ref (w.2.2.1 0)), (1, .int p1)]) (by decide) rfl dX0_oddsOf_1 ?_
  refine sn_iconst hO kc_0 dX0_oddsOf_2 ?_
  refine sn_istore hO (lv' := [(4, .int 0), (2, .long 0), (0, .ref (w.2.2.1 0)), (1, .int p1)]) (by decide) rfl dX0_oddsOf_3 ?_
  refine sn_sub [2, 3, 1, 0] rfl ?_
  refine sn_lp3_walk (Gd := fun (i10 : Int64) (i11 : Int32) (S12 : sn_S) => sn_G LoX w rmX0_oddsOf Qq sn_noE C 0 0 5 [(0, .ref (w.2.2.1 0)), (1, .int p1), (2, .long i10), (4, .int i11)] [] S12) ?_ _ _ _
  intro rc13 hrc13 i10 i11 S12
  refine sn_iload hO 3 rfl dX0_oddsOf_5 ?_
  refine sn_iload_n hO 1 rfl dX0_oddsOf_7 ?_
  refine sn_icmp_gt hO 113 (by decide) dX0_oddsOf_8 ?_ ?_
  · refine sn_lload_n hO 2 rfl dX0_oddsOf_113 ?_
    subst hQq
    exact sn_lret hO rfl dX0_oddsOf_114
  · refine sn_iload hO 3 rfl dX0_oddsOf_11 ?_
    refine sn_iload_n hO 1 rfl dX0_oddsOf_13 ?_
    refine sn_iconst hO kc_m1 dX0_oddsOf_14 ?_
    refine sn_ixor hO dX0_oddsOf_15 ?_
    refine sn_iand hO dX0_oddsOf_16 ?_
    refine sn_jn_walk (fun (k : Int64 → sn_S → Prop) => ∀ (v14 : Int64) (S15 : sn_S), k v14 S15 → sn_G LoX w rmX0_oddsOf Qq sn_noE C 0 0 107 [(0, .ref (w.2.2.1 0)), (1, .int p1), (2, .long v14), (4, .int i11)] [] S15) ?_ ?_
    · intro v14 S15
      refine sn_iinc hO (lv' := [(4, .int (i11 + 1)), (0, .ref (w.2.2.1 0)), (1, .int p1), (2, .long v14)]) 3 rfl ki_1 (by decide) rfl dX0_oddsOf_107 ?_
      refine sn_goto hO 5 (by decide) dX0_oddsOf_110 ?_
      refine sn_sub [1, 2, 3, 0] rfl ?_
      exact hrc13 _ _ _
    · intro k16 hk16
      refine sn_if_ne hO 107 (by decide) dX0_oddsOf_17 ?_ ?_
      · exact hk16 _ _
      · refine sn_aload_n hO 0 rfl dX0_oddsOf_20 ?_
        refine sn_iload hO 3 rfl dX0_oddsOf_21 ?_
        refine sn_callV hO (c2 := 0) (s2 := 0) (rm := rmX0_isRead) [.int i11] cvX0_310 (fun _ => sn_Rv_K atX_0) (fun h => ctX0_isRead h) ⟨Nat.le_of_ble_eq_true rfl, Nat.le_of_ble_eq_true rfl⟩ rfl rfl (Nat.le_of_ble_eq_true rfl) ⟨Nat.le_of_ble_eq_true rfl, Nat.le_of_ble_eq_true rfl, rfl, rfl⟩ dX0_oddsOf_23 (sn_bI (fun r17 S18 => ?_)) sn_x0
        refine sn_if_ne hO 32 (by decide) dX0_oddsOf_26 ?_ ?_
        · refine sn_lconst hO (v := 1) rfl dX0_oddsOf_32 ?_
          refine sn_lstore hO (lv' := [(5, .long 1), (0, .ref (w.2.2.1 0)), (1, .int p1), (2, .long i10), (4, .int i11)]) (by decide) rfl dX0_oddsOf_33 ?_
          refine sn_iconst hO kc_0 dX0_oddsOf_35 ?_
          refine sn_istore hO (lv' := [(7, .int 0), (5, .long 1), (0, .ref (w.2.2.1 0)), (1, .int p1), (2, .long i10), (4, .int i11)]) (by decide) rfl dX0_oddsOf_36 ?_
          refine sn_jn_walk (fun (k : Int64 → Prop) => ∀ (v19 : Int64), k v19 → sn_G LoX w rmX0_oddsOf Qq sn_noE C 0 0 102 [(0, .ref (w.2.2.1 0)), (1, .int p1), (2, .long i10), (4, .int i11), (5, .long v19)] [] S18) ?_ ?_
          · intro v19
            refine sn_lload_n hO 2 rfl dX0_oddsOf_102 ?_
            refine sn_lload hO 4 rfl dX0_oddsOf_103 ?_
            refine sn_ladd hO dX0_oddsOf_105 ?_
            refine sn_nmL (fun x21 => ?_)
            refine sn_lstore_n hO (lv' := [(2, .long x21), (0, .ref (w.2.2.1 0)), (1, .int p1), (4, .int i11), (5, .long v19)]) (by decide) rfl dX0_oddsOf_106 ?_
            refine sn_sub [1, 2, 0, 3] rfl ?_
            exact hk16 _ _
          · intro k20 hk20
            refine sn_sub [2, 3, 4, 5, 1, 0] rfl ?_
            refine sn_lp2_walk (Gd := fun (i22 : Int64) (i23 : Int32) => sn_G LoX w rmX0_oddsOf Qq sn_noE C 0 0 38 [(0, .ref (w.2.2.1 0)), (1, .int p1), (2, .long i10), (4, .int i11), (5, .long i22), (7, .int i23)] [] S18) ?_ _ _
            intro rc24 hrc24 i22 i23
            refine sn_iload hO 5 rfl dX0_oddsOf_38 ?_
            refine sn_aload_n hO 0 rfl dX0_oddsOf_40 ?_
            refine sn_getF hO fX0_16 atX_0 dX0_oddsOf_41 ?_
            refine sn_getIN hO fX0_116 atX_2 dX0_oddsOf_44 ?_
            refine sn_icmp_ge hO 102 (by decide) dX0_oddsOf_47 ?_ ?_
            · refine sn_sub [0, 1, 2, 3, 4] rfl ?_
              exact hk20 _
            · refine sn_iload_n hO 1 rfl dX0_oddsOf_50 ?_
              refine sn_iload hO 5 rfl dX0_oddsOf_51 ?_
              refine sn_callS hO (c2 := 0) (s2 := 0) (rm := rmX0_isOf) [.int p1, .int i23] csX0_301 (fun h => ctX0_isOf h) ⟨Nat.le_of_ble_eq_true rfl, Nat.le_of_ble_eq_true rfl⟩ rfl rfl (Nat.le_of_ble_eq_true rfl) ⟨Nat.le_of_ble_eq_true rfl, Nat.le_of_ble_eq_true rfl, rfl, rfl⟩ dX0_oddsOf_53 (sn_bIp (fun r25 => ?_)) sn_x0
              refine sn_jn_walk (fun (k : Int64 → Prop) => ∀ (v26 : Int64), k v26 → sn_G LoX w rmX0_oddsOf Qq sn_noE C 0 0 96 [(0, .ref (w.2.2.1 0)), (1, .int p1), (2, .long i10), (4, .int i11), (5, .long v26), (7, .int i23)] [] S18) ?_ ?_
              · intro v26
                refine sn_iinc hO (lv' := [(7, .int (i23 + 1)), (0, .ref (w.2.2.1 0)), (1, .int p1), (2, .long i10), (4, .int i11), (5, .long v26)]) 5 rfl ki_1 (by decide) rfl dX0_oddsOf_96 ?_
                refine sn_goto hO 38 (by decide) dX0_oddsOf_99 ?_
                refine sn_sub [1, 2, 3, 4, 5, 0] rfl ?_
                exact hrc24 _ _
              · intro k27 hk27
                refine sn_if_eq hO 96 (by decide) dX0_oddsOf_56 ?_ ?_
                · exact hk27 _
                · refine sn_lload hO 4 rfl dX0_oddsOf_59 ?_
                  refine sn_iload hO 3 rfl dX0_oddsOf_61 ?_
                  refine sn_iload hO 5 rfl dX0_oddsOf_63 ?_
                  refine sn_callS hO (c2 := 0) (s2 := 0) (rm := rmX0_isOf) [.int i11, .int i23] csX0_301 (fun h => ctX0_isOf h) ⟨Nat.le_of_ble_eq_true rfl, Nat.le_of_ble_eq_true rfl⟩ rfl rfl (Nat.le_of_ble_eq_true rfl) ⟨Nat.le_of_ble_eq_true rfl, Nat.le_of_ble_eq_true rfl, rfl, rfl⟩ dX0_oddsOf_65 (sn_bIp (fun r28 => ?_)) sn_x0
                  refine sn_jn_walk (fun (k : Int64 → Prop) => ∀ (v29 : Int64), k v29 → sn_G LoX w rmX0_oddsOf Qq sn_noE C 0 0 93 [(0, .ref (w.2.2.1 0)), (1, .int p1), (2, .long i10), (4, .int i11), (7, .int i23)] [.long v29, .long i22] S18) ?_ ?_
                  · intro v29
                    refine sn_lmul hO dX0_oddsOf_93 ?_
                    refine sn_nmL (fun x31 => ?_)
                    refine sn_lstore hO (lv' := [(5, .long x31), (0, .ref (w.2.2.1 0)), (1, .int p1), (2, .long i10), (4, .int i11), (7, .int i23)]) (by decide) rfl dX0_oddsOf_94 ?_
                    refine sn_sub [1, 2, 3, 4, 0, 5] rfl ?_
                    exact hk27 _
                  · intro k30 hk30
                    refine sn_if_eq hO 85 (by decide) dX0_oddsOf_68 ?_ ?_
                    · refine sn_aload_n hO 0 rfl dX0_oddsOf_85 ?_
                      refine sn_iload hO 5 rfl dX0_oddsOf_86 ?_
                      refine sn_iconst hO kc_4 dX0_oddsOf_88 ?_
                      refine sn_callV hO (c2 := 0) (s2 := 0) (rm := rmX0_of0) [.int i23, .int 4] cvX0_143 (fun _ => sn_Rv_K atX_0) (fun h => ctX0_of0 h) ⟨Nat.le_of_ble_eq_true rfl, Nat.le_of_ble_eq_true rfl⟩ rfl rfl (Nat.le_of_ble_eq_true rfl) ⟨Nat.le_of_ble_eq_true rfl, Nat.le_of_ble_eq_true rfl, rfl, rfl⟩ dX0_oddsOf_89 (sn_bIp (fun r32 => ?_)) sn_x0
                      refine sn_i2l hO dX0_oddsOf_92 ?_
                      refine sn_sub [0, 1, 2, 3, 5] rfl ?_
                      exact hk30 _
                    · refine sn_bipush hO kb_100 dX0_oddsOf_71 ?_
                      refine sn_aload_n hO 0 rfl dX0_oddsOf_73 ?_
                      refine sn_iload hO 5 rfl dX0_oddsOf_74 ?_
                      refine sn_iconst hO kc_4 dX0_oddsOf_76 ?_
                      refine sn_callV hO (c2 := 0) (s2 := 0) (rm := rmX0_of0) [.int i23, .int 4] cvX0_143 (fun _ => sn_Rv_K atX_0) (fun h => ctX0_of0 h) ⟨Nat.le_of_ble_eq_true rfl, Nat.le_of_ble_eq_true rfl⟩ rfl rfl (Nat.le_of_ble_eq_true rfl) ⟨Nat.le_of_ble_eq_true rfl, Nat.le_of_ble_eq_true rfl, rfl, rfl⟩ dX0_oddsOf_77 (sn_bIp (fun r33 => ?_)) sn_x0
                      refine sn_isub hO dX0_oddsOf_80 ?_
                      refine sn_i2l hO dX0_oddsOf_81 ?_
                      refine sn_goto hO 93 (by decide) dX0_oddsOf_82 ?_
                      refine sn_sub [0, 1, 2, 3, 5] rfl ?_
                      exact hk30 _
        · refine sn_goto hO 107 (by decide) dX0_oddsOf_29 ?_
          exact hk16 _ _
theorem ctX0_oddsOf {w : sn_W} {p1 : Int32} {S : sn_S} {Q : Int64 → sn_S → Prop} (h : wpX0_oddsOf w p1 S Q) : sn_Ct LoX w yX0_oddsOf (ws_ yX0_oddsOf cX0_oddsOf 8 (some .long)) rmX0_oddsOf [.ref (w.2.2.1 0), .int p1] S (sn_qL Q) sn_noE := sn_Ct_of (XX_O w) (by decide) (Nat.le_of_ble_eq_true rfl) RX0 rfl (fun C hO => wkX0_oddsOf hO p1 S Q h)
def rmX0_odds : Room := { frames := 5, cells := 0, slots := 0, locals := 115 }
/-- SnailPost.odds()J -/
def wpX0_odds (w : sn_W) (S : sn_S) (Q : Int64 → sn_S → Prop) : Prop :=
  wpX0_everyone w S (fun (r10 : Int32) => wpX0_oddsOf w r10 S (fun (r11 : Int64) (S12 : sn_S) => Q r11 S12))
theorem wkX0_odds {w : sn_W} {C : sn_C} (hO : sn_Ok LoX w C RX0 cX0_odds 1 (some .long) [] "odds") (S : sn_S) (Q : Int64 → sn_S → Prop) : wpX0_odds w S Q → sn_G LoX w rmX0_odds (sn_qL Q) sn_noE C 0 0 0 [(0, .ref (w.2.2.1 0))] [] S := by
  unfold wpX0_odds
  generalize hQq : (sn_qL Q) = Qq
  refine sn_aload_n hO 0 rfl dX0_odds_0 ?_
  refine sn_aload_n hO 0 rfl dX0_odds_1 ?_
  refine sn_callV hO (c2 := 0) (s2 := 0) (rm := rmX0_everyone) [] cvX0_257 (fun _ => sn_Rv_K atX_0) (fun h => ctX0_everyone h) ⟨Nat.le_of_ble_eq_true rfl, Nat.le_of_ble_eq_true rfl⟩ rfl rfl (Nat.le_of_ble_eq_true rfl) ⟨Nat.le_of_ble_eq_true rfl, Nat.le_of_ble_eq_true rfl, rfl, rfl⟩ dX0_odds_2 (sn_bIp (fun r10 => ?_)) sn_x0
  refine sn_callV hO (c2 := 0) (s2 := 0) (rm := rmX0_oddsOf) [.int r10] cvX0_319 (fun _ => sn_Rv_K atX_0) (fun h => ctX0_oddsOf h) ⟨Nat.le_of_ble_eq_true rfl, Nat.le_of_ble_eq_true rfl⟩ rfl rfl (Nat.le_of_ble_eq_true rfl) ⟨Nat.le_of_ble_eq_true rfl, Nat.le_of_ble_eq_true rfl, rfl, rfl⟩ dX0_odds_5 (sn_bL (fun r11 S12 => ?_)) sn_x0
  subst hQq
  exact sn_lret hO rfl dX0_odds_8
theorem ctX0_odds {w : sn_W} {S : sn_S} {Q : Int64 → sn_S → Prop} (h : wpX0_odds w S Q) : sn_Ct LoX w yX0_odds (ws_ yX0_odds cX0_odds 1 (some .long)) rmX0_odds [.ref (w.2.2.1 0)] S (sn_qL Q) sn_noE := sn_Ct_of (XX_O w) (by decide) (Nat.le_of_ble_eq_true rfl) RX0 rfl (fun C hO => wkX0_odds hO S Q h)
def rmX0_keys : Room := { frames := 4, cells := 0, slots := 0, locals := 88 }
/-- SnailPost.keys()I -/
def wpX0_keys (w : sn_W) (S : sn_S) (Q : Int32 → sn_S → Prop) : Prop :=
  sn_lp3 (fun (rc13 : Int32 → Int32 → sn_S → Prop) (i10 : Int32) (i11 : Int32) (S12 : sn_S) => (((S12.1 2 8) ≤ i11 → Q i10 S12) ∧ (¬ (S12.1 2 8) ≤ i11 → wpX0_everyone w S12 (fun (r14 : Int32) => wpX0_isRead w (r14 &&& ((1 <<< (i11 &&& 31)) ^^^ (-1))) S12 (fun (r15 : Int32) (S16 : sn_S) => sn_jn (fun (v17 : Int32) => sn_lt (i10 ||| v17) (fun x19 => rc13 x19 (i11 + 1) S16)) (fun (k18 : Int32 → Prop) => ((r15 = 0 → k18 (1 <<< (i11 &&& 31))) ∧ (¬ r15 = 0 → k18 0)))))))) 0 0 S
theorem wkX0_keys {w : sn_W} {C : sn_C} (hO : sn_Ok LoX w C RX0 cX0_keys 3 (some .int) [] "keys") (S : sn_S) (Q : Int32 → sn_S → Prop) : wpX0_keys w S Q → sn_G LoX w rmX0_keys (sn_qI Q) sn_noE C 0 0 0 [(0, .ref (w.2.2.1 0))] [] S := by
  unfold wpX0_keys
  generalize hQq : (sn_qI Q) = Qq
  refine sn_iconst hO kc_0 dX0_keys_0 ?_
  refine sn_istore_n hO (lv' := [(1, .int 0), (0, .ref (w.2.2.1 0))]) (by decide) rfl dX0_keys_1 ?_
  refine sn_iconst hO kc_0 dX0_keys_2 ?_
  refine sn_istore_n hO (lv' := [(2, .int 0), (1, .int 0), (0, .ref (w.2.2.1 0))]) (by decide) rfl dX0_keys_3 ?_
  refine sn_sub [2, 1, 0] rfl ?_
  refine sn_lp3_walk (Gd := fun (i10 : Int32) (i11 : Int32) (S12 : sn_S) => sn_G LoX w rmX0_keys Qq sn_noE C 0 0 4 [(0, .ref (w.2.2.1 0)), (1, .int i10), (2, .int i11)] [] S12) ?_ _ _ _
  intro rc13 hrc13 i10 i11 S12
  refine sn_iload_n hO 2 rfl dX0_keys_4 ?_
  refine sn_aload_n hO 0 rfl dX0_keys_5 ?_
  refine sn_getF hO fX0_16 atX_0 dX0_keys_6 ?_
  refine sn_getIN hO fX0_116 atX_2 dX0_keys_9 ?_
  refine sn_icmp_ge hO 48 (by decide) dX0_keys_12 ?_ ?_
  · refine sn_iload_n hO 1 rfl dX0_keys_48 ?_
    subst hQq
    exact sn_iret hO rfl dX0_keys_49
  · refine sn_iload_n hO 1 rfl dX0_keys_15 ?_
    refine sn_aload_n hO 0 rfl dX0_keys_16 ?_
    refine sn_aload_n hO 0 rfl dX0_keys_17 ?_
    refine sn_callV hO (c2 := 0) (s2 := 0) (rm := rmX0_everyone) [] cvX0_257 (fun _ => sn_Rv_K atX_0) (fun h => ctX0_everyone h) ⟨Nat.le_of_ble_eq_true rfl, Nat.le_of_ble_eq_true rfl⟩ rfl rfl (Nat.le_of_ble_eq_true rfl) ⟨Nat.le_of_ble_eq_true rfl, Nat.le_of_ble_eq_true rfl, rfl, rfl⟩ dX0_keys_18 (sn_bIp (fun r14 => ?_)) sn_x0
    refine sn_iconst hO kc_1 dX0_keys_21 ?_
    refine sn_iload_n hO 2 rfl dX0_keys_22 ?_
    refine sn_ishl hO dX0_keys_23 ?_
    refine sn_iconst hO kc_m1 dX0_keys_24 ?_
    refine sn_ixor hO dX0_keys_25 ?_
    refine sn_iand hO dX0_keys_26 ?_
    refine sn_callV hO (c2 := 0) (s2 := 0) (rm := rmX0_isRead) [.int (r14 &&& ((1 <<< (i11 &&& 31)) ^^^ (-1)))] cvX0_310 (fun _ => sn_Rv_K atX_0) (fun h => ctX0_isRead h) ⟨Nat.le_of_ble_eq_true rfl, Nat.le_of_ble_eq_true rfl⟩ rfl rfl (Nat.le_of_ble_eq_true rfl) ⟨Nat.le_of_ble_eq_true rfl, Nat.le_of_ble_eq_true rfl, rfl, rfl⟩ dX0_keys_27 (sn_bI (fun r15 S16 => ?_)) sn_x0
    refine sn_jn_walk (fun (k : Int32 → Prop) => ∀ (v17 : Int32), k v17 → sn_G LoX w rmX0_keys Qq sn_noE C 0 0 40 [(0, .ref (w.2.2.1 0)), (2, .int i11)] [.int v17, .int i10] S16) ?_ ?_
    · intro v17
      refine sn_ior hO dX0_keys_40 ?_
      refine sn_nmI (fun x19 => ?_)
      refine sn_istore_n hO (lv' := [(1, .int x19), (0, .ref (w.2.2.1 0)), (2, .int i11)]) (by decide) rfl dX0_keys_41 ?_
      refine sn_iinc hO (lv' := [(2, .int (i11 + 1)), (1, .int x19), (0, .ref (w.2.2.1 0))]) 2 rfl ki_1 (by decide) rfl dX0_keys_42 ?_
      refine sn_goto hO 4 (by decide) dX0_keys_45 ?_
      refine sn_sub [2, 1, 0] rfl ?_
      exact hrc13 _ _ _
    · intro k18 hk18
      refine sn_if_eq hO 37 (by decide) dX0_keys_30 ?_ ?_
      · refine sn_iconst hO kc_1 dX0_keys_37 ?_
        refine sn_iload_n hO 2 rfl dX0_keys_38 ?_
        refine sn_ishl hO dX0_keys_39 ?_
        refine sn_sub [0, 2] rfl ?_
        exact hk18 _
      · refine sn_iconst hO kc_0 dX0_keys_33 ?_
        refine sn_goto hO 40 (by decide) dX0_keys_34 ?_
        refine sn_sub [0, 2] rfl ?_
        exact hk18 _
theorem ctX0_keys {w : sn_W} {S : sn_S} {Q : Int32 → sn_S → Prop} (h : wpX0_keys w S Q) : sn_Ct LoX w yX0_keys (ws_ yX0_keys cX0_keys 3 (some .int)) rmX0_keys [.ref (w.2.2.1 0)] S (sn_qI Q) sn_noE := sn_Ct_of (XX_O w) (by decide) (Nat.le_of_ble_eq_true rfl) RX0 rfl (fun C hO => wkX0_keys hO S Q h)
def rmX0_send : Room := { frames := 5, cells := 0, slots := 0, locals := 115 }
/-- SnailPost.send(I)I -/
def wpX0_send (w : sn_W) (p1 : Int32) (S : sn_S) (Q : Int32 → sn_S → Prop) : Prop :=
  wpX0_in w p1 0 100 (fun (r10 : Int32) => ((¬ r10 = 0 → sn_lp4 (fun (rc15 : Int32 → Int64 → Int32 → sn_S → Prop) (i11 : Int32) (i12 : Int64) (i13 : Int32) (S14 : sn_S) => wpX0_everyone w S14 (fun (r16 : Int32) => ((r16 < i13 → Q i11 S14) ∧ (¬ r16 < i13 → sn_jn (fun (v17 : Int32) (v18 : Int64) (S19 : sn_S) => rc15 v17 v18 (i13 + 1) S19) (fun (k20 : Int32 → Int64 → sn_S → Prop) => sn_jn (κ := Prop) (sn_jn (fun (v22 : Int64) => wpX0_oddsOf w i13 S14 (fun (r24 : Int64) (S25 : sn_S) => (((lg_cmp (100 * r24) ((Int32.toInt64 p1) * v22)) < 0 → k20 i11 i12 S25) ∧ (¬ (lg_cmp (100 * r24) ((Int32.toInt64 p1) * v22)) < 0 → sn_jn (κ := Prop) (k20 i13 r24 S25) (fun (k26 : Prop) => ((i11 = (-1) → k26) ∧ (¬ i11 = (-1) → wpX0_ones w i13 (fun (r27 : Int32) => wpX0_ones w i11 (fun (r28 : Int32) => ((¬ r27 = r28 → k26) ∧ (r27 = r28 → ((0 < (lg_cmp r24 i12) → k26) ∧ (¬ 0 < (lg_cmp r24 i12) → k20 i11 i12 S25))))))))))))) (fun (k23 : Int64 → Prop) => sn_lp2 (fun (rc31 : Int64 → Int32 → Prop) (i29 : Int64) (i30 : Int32) => wpX0_ones w i13 (fun (r32 : Int32) => ((r32 ≤ i30 → k23 i29) ∧ (¬ r32 ≤ i30 → sn_lt (i29 * 100) (fun x33 => rc31 x33 (i30 + 1)))))) 1 0)) (fun (k21 : Prop) => ((i11 = (-1) → k21) ∧ (¬ i11 = (-1) → wpX0_ones w i13 (fun (r34 : Int32) => wpX0_ones w i11 (fun (r35 : Int32) => ((r34 ≤ r35 → k21) ∧ (¬ r34 ≤ r35 → k20 i11 i12 S14)))))))))))) (-1) 0 0 S) ∧ (r10 = 0 → Q (-1) S)))
theorem wkX0_send {w : sn_W} {C : sn_C} (hO : sn_Ok LoX w C RX0 cX0_send 10 (some .int) [] "send") (p1 : Int32) (S : sn_S) (Q : Int32 → sn_S → Prop) : wpX0_send w p1 S Q → sn_G LoX w rmX0_send (sn_qI Q) sn_noE C 0 0 0 [(0, .ref (w.2.2.1 0)), (1, .int p1)] [] S := by
  unfold wpX0_send
  generalize hQq : (sn_qI Q) = Qq
  refine sn_iload_n hO 1 rfl dX0_send_0 ?_
  refine sn_iconst hO kc_0 dX0_send_1 ?_
  refine sn_bipush hO kb_100 dX0_send_2 ?_
  refine sn_callS hO (c2 := 0) (s2 := 0) (rm := rmX0_in) [.int p1, .int 0, .int 100] csX0_112 (fun h => ctX0_in h) ⟨Nat.le_of_ble_eq_true rfl, Nat.le_of_ble_eq_true rfl⟩ rfl rfl (Nat.le_of_ble_eq_true rfl) ⟨Nat.le_of_ble_eq_true rfl, Nat.le_of_ble_eq_true rfl, rfl, rfl⟩ dX0_send_4 (sn_bIp (fun r10 => ?_)) sn_x0
  refine sn_if_ne hO 12 (by decide) dX0_send_7 ?_ ?_
  · refine sn_iconst hO kc_m1 dX0_send_12 ?_
    refine sn_istore_n hO (lv' := [(2, .int (-1)), (0, .ref (w.2.2.1 0)), (1, .int p1)]) (by decide) rfl dX0_send_13 ?_
    refine sn_lconst hO (v := 0) rfl dX0_send_14 ?_
    refine sn_lstore_n hO (lv' := [(3, .long 0), (2, .int (-1)), (0, .ref (w.2.2.1 0)), (1, .int p1)]) (by decide) rfl dX0_send_15 ?_
    refine sn_iconst hO kc_0 dX0_send_16 ?_
    refine sn_istore hO (lv' := [(5, .int 0), (3, .long 0), (2, .int (-1)), (0, .ref (w.2.2.1 0)), (1, .int p1)]) (by decide) rfl dX0_send_17 ?_
    refine sn_sub [3, 4, 2, 1, 0] rfl ?_
    refine sn_lp4_walk (Gd := fun (i11 : Int32) (i12 : Int64) (i13 : Int32) (S14 : sn_S) => sn_G LoX w rmX0_send Qq sn_noE C 0 0 19 [(0, .ref (w.2.2.1 0)), (1, .int p1), (2, .int i11), (3, .long i12), (5, .int i13)] [] S14) ?_ _ _ _ _
    intro rc15 hrc15 i11 i12 i13 S14
    refine sn_iload hO 4 rfl dX0_send_19 ?_
    refine sn_aload_n hO 0 rfl dX0_send_21 ?_
    refine sn_callV hO (c2 := 0) (s2 := 0) (rm := rmX0_everyone) [] cvX0_257 (fun _ => sn_Rv_K atX_0) (fun h => ctX0_everyone h) ⟨Nat.le_of_ble_eq_true rfl, Nat.le_of_ble_eq_true rfl⟩ rfl rfl (Nat.le_of_ble_eq_true rfl) ⟨Nat.le_of_ble_eq_true rfl, Nat.le_of_ble_eq_true rfl, rfl, rfl⟩ dX0_send_22 (sn_bIp (fun r16 => ?_)) sn_x0
    refine sn_icmp_gt hO 140 (by decide) dX0_send_25 ?_ ?_
    · refine sn_iload_n hO 2 rfl dX0_send_140 ?_
      subst hQq
      exact sn_iret hO rfl dX0_send_141
    · refine sn_iload_n hO 2 rfl dX0_send_28 ?_
      refine sn_iconst hO kc_m1 dX0_send_29 ?_
      refine sn_jn_walk (fun (k : Int32 → Int64 → sn_S → Prop) => ∀ (v17 : Int32) (v18 : Int64) (S19 : sn_S), k v17 v18 S19 → sn_G LoX w rmX0_send Qq sn_noE C 0 0 134 [(0, .ref (w.2.2.1 0)), (1, .int p1), (2, .int v17), (3, .long v18), (5, .int i13)] [] S19) ?_ ?_
      · intro v17 v18 S19
        refine sn_iinc hO (lv' := [(5, .int (i13 + 1)), (0, .ref (w.2.2.1 0)), (1, .int p1), (2, .int v17), (3, .long v18)]) 4 rfl ki_1 (by decide) rfl dX0_send_134 ?_
        refine sn_goto hO 19 (by decide) dX0_send_137 ?_
        refine sn_sub [1, 2, 3, 4, 0] rfl ?_
        exact hrc15 _ _ _ _
      · intro k20 hk20
        refine sn_jn_walk (fun (k : Prop) => k → sn_G LoX w rmX0_send Qq sn_noE C 0 0 48 [(0, .ref (w.2.2.1 0)), (1, .int p1), (2, .int i11), (3, .long i12), (5, .int i13)] [] S14) ?_ ?_
        · refine sn_lconst hO (v := 1) rfl dX0_send_48 ?_
          refine sn_lstore hO (lv' := [(6, .long 1), (0, .ref (w.2.2.1 0)), (1, .int p1), (2, .int i11), (3, .long i12), (5, .int i13)]) (by decide) rfl dX0_send_49 ?_
          refine sn_iconst hO kc_0 dX0_send_51 ?_
          refine sn_istore hO (lv' := [(8, .int 0), (6, .long 1), (0, .ref (w.2.2.1 0)), (1, .int p1), (2, .int i11), (3, .long i12), (5, .int i13)]) (by decide) rfl dX0_send_52 ?_
          refine sn_jn_walk (fun (k : Int64 → Prop) => ∀ (v22 : Int64), k v22 → sn_G LoX w rmX0_send Qq sn_noE C 0 0 78 [(0, .ref (w.2.2.1 0)), (1, .int p1), (2, .int i11), (3, .long i12), (5, .int i13), (6, .long v22)] [] S14) ?_ ?_
          · intro v22
            refine sn_aload_n hO 0 rfl dX0_send_78 ?_
            refine sn_iload hO 4 rfl dX0_send_79 ?_
            refine sn_callV hO (c2 := 0) (s2 := 0) (rm := rmX0_oddsOf) [.int i13] cvX0_319 (fun _ => sn_Rv_K atX_0) (fun h => ctX0_oddsOf h) ⟨Nat.le_of_ble_eq_true rfl, Nat.le_of_ble_eq_true rfl⟩ rfl rfl (Nat.le_of_ble_eq_true rfl) ⟨Nat.le_of_ble_eq_true rfl, Nat.le_of_ble_eq_true rfl, rfl, rfl⟩ dX0_send_81 (sn_bL (fun r24 S25 => ?_)) sn_x0
            refine sn_lstore hO (lv' := [(8, .long r24), (0, .ref (w.2.2.1 0)), (1, .int p1), (2, .int i11), (3, .long i12), (5, .int i13), (6, .long v22)]) (by decide) rfl dX0_send_84 ?_
            refine sn_ldc2 hO q1334 dX0_send_86 ?_
            refine sn_lload hO 0 rfl dX0_send_89 ?_
            refine sn_lmul hO dX0_send_91 ?_
            refine sn_iload_n hO 2 rfl dX0_send_92 ?_
            refine sn_i2l hO dX0_send_93 ?_
            refine sn_lload hO 6 rfl dX0_send_94 ?_
            refine sn_lmul hO dX0_send_96 ?_
            refine sn_lcmp hO dX0_send_97 ?_
            refine sn_if_lt hO 134 (by decide) dX0_send_98 ?_ ?_
            · refine sn_sub [1, 2, 3, 4, 5] rfl ?_
              exact hk20 _ _ _
            · refine sn_iload_n hO 3 rfl dX0_send_101 ?_
              refine sn_iconst hO kc_m1 dX0_send_102 ?_
              refine sn_jn_walk (fun (k : Prop) => k → sn_G LoX w rmX0_send Qq sn_noE C 0 0 128 [(0, .ref (w.2.2.1 0)), (1, .int p1), (5, .int i13), (8, .long r24)] [] S25) ?_ ?_
              · refine sn_iload hO 2 rfl dX0_send_128 ?_
                refine sn_istore_n hO (lv' := [(2, .int i13), (0, .ref (w.2.2.1 0)), (1, .int p1), (5, .int i13), (8, .long r24)]) (by decide) rfl dX0_send_130 ?_
                refine sn_lload hO 4 rfl dX0_send_131 ?_
                refine sn_lstore_n hO (lv' := [(3, .long r24), (2, .int i13), (0, .ref (w.2.2.1 0)), (1, .int p1), (5, .int i13), (8, .long r24)]) (by decide) rfl dX0_send_133 ?_
                refine sn_sub [2, 3, 1, 0, 4] rfl ?_
                exact hk20 _ _ _
              · intro k26 hk26
                refine sn_icmp_eq hO 128 (by decide) dX0_send_103 ?_ ?_
                · refine sn_sub [1, 2, 5, 0] rfl ?_
                  exact hk26
                · refine sn_iload hO 5 rfl dX0_send_106 ?_
                  refine sn_callS hO (c2 := 0) (s2 := 0) (rm := rmX0_ones) [.int i13] csX0_313 (fun h => ctX0_ones h) ⟨Nat.le_of_ble_eq_true rfl, Nat.le_of_ble_eq_true rfl⟩ rfl rfl (Nat.le_of_ble_eq_true rfl) ⟨Nat.le_of_ble_eq_true rfl, Nat.le_of_ble_eq_true rfl, rfl, rfl⟩ dX0_send_108 (sn_bIp (fun r27 => ?_)) sn_x0
                  refine sn_iload_n hO 3 rfl dX0_send_111 ?_
                  refine sn_callS hO (c2 := 0) (s2 := 0) (rm := rmX0_ones) [.int i11] csX0_313 (fun h => ctX0_ones h) ⟨Nat.le_of_ble_eq_true rfl, Nat.le_of_ble_eq_true rfl⟩ rfl rfl (Nat.le_of_ble_eq_true rfl) ⟨Nat.le_of_ble_eq_true rfl, Nat.le_of_ble_eq_true rfl, rfl, rfl⟩ dX0_send_112 (sn_bIp (fun r28 => ?_)) sn_x0
                  refine sn_icmp_ne hO 128 (by decide) dX0_send_115 ?_ ?_
                  · refine sn_sub [1, 2, 5, 0] rfl ?_
                    exact hk26
                  · refine sn_lload hO 0 rfl dX0_send_118 ?_
                    refine sn_lload_n hO 4 rfl dX0_send_120 ?_
                    refine sn_lcmp hO dX0_send_121 ?_
                    refine sn_if_gt hO 128 (by decide) dX0_send_122 ?_ ?_
                    · refine sn_sub [1, 2, 5, 0] rfl ?_
                      exact hk26
                    · refine sn_goto hO 134 (by decide) dX0_send_125 ?_
                      refine sn_sub [1, 2, 3, 4, 5] rfl ?_
                      exact hk20 _ _ _
          · intro k23 hk23
            refine sn_sub [2, 3, 4, 5, 6, 1, 0] rfl ?_
            refine sn_lp2_walk (Gd := fun (i29 : Int64) (i30 : Int32) => sn_G LoX w rmX0_send Qq sn_noE C 0 0 54 [(0, .ref (w.2.2.1 0)), (1, .int p1), (2, .int i11), (3, .long i12), (5, .int i13), (6, .long i29), (8, .int i30)] [] S14) ?_ _ _
            intro rc31 hrc31 i29 i30
            refine sn_iload hO 6 rfl dX0_send_54 ?_
            refine sn_iload hO 4 rfl dX0_send_56 ?_
            refine sn_callS hO (c2 := 0) (s2 := 0) (rm := rmX0_ones) [.int i13] csX0_313 (fun h => ctX0_ones h) ⟨Nat.le_of_ble_eq_true rfl, Nat.le_of_ble_eq_true rfl⟩ rfl rfl (Nat.le_of_ble_eq_true rfl) ⟨Nat.le_of_ble_eq_true rfl, Nat.le_of_ble_eq_true rfl, rfl, rfl⟩ dX0_send_58 (sn_bIp (fun r32 => ?_)) sn_x0
            refine sn_icmp_ge hO 78 (by decide) dX0_send_61 ?_ ?_
            · refine sn_sub [0, 1, 2, 3, 4, 5] rfl ?_
              exact hk23 _
            · refine sn_lload hO 5 rfl dX0_send_64 ?_
              refine sn_ldc2 hO q1334 dX0_send_66 ?_
              refine sn_lmul hO dX0_send_69 ?_
              refine sn_nmL (fun x33 => ?_)
              refine sn_lstore hO (lv' := [(6, .long x33), (0, .ref (w.2.2.1 0)), (1, .int p1), (2, .int i11), (3, .long i12), (5, .int i13), (8, .int i30)]) (by decide) rfl dX0_send_70 ?_
              refine sn_iinc hO (lv' := [(8, .int (i30 + 1)), (6, .long x33), (0, .ref (w.2.2.1 0)), (1, .int p1), (2, .int i11), (3, .long i12), (5, .int i13)]) 6 rfl ki_1 (by decide) rfl dX0_send_72 ?_
              refine sn_goto hO 54 (by decide) dX0_send_75 ?_
              refine sn_sub [2, 3, 4, 5, 6, 1, 0] rfl ?_
              exact hrc31 _ _
        · intro k21 hk21
          refine sn_icmp_eq hO 48 (by decide) dX0_send_30 ?_ ?_
          · exact hk21
          · refine sn_iload hO 4 rfl dX0_send_33 ?_
            refine sn_callS hO (c2 := 0) (s2 := 0) (rm := rmX0_ones) [.int i13] csX0_313 (fun h => ctX0_ones h) ⟨Nat.le_of_ble_eq_true rfl, Nat.le_of_ble_eq_true rfl⟩ rfl rfl (Nat.le_of_ble_eq_true rfl) ⟨Nat.le_of_ble_eq_true rfl, Nat.le_of_ble_eq_true rfl, rfl, rfl⟩ dX0_send_35 (sn_bIp (fun r34 => ?_)) sn_x0
            refine sn_iload_n hO 2 rfl dX0_send_38 ?_
            refine sn_callS hO (c2 := 0) (s2 := 0) (rm := rmX0_ones) [.int i11] csX0_313 (fun h => ctX0_ones h) ⟨Nat.le_of_ble_eq_true rfl, Nat.le_of_ble_eq_true rfl⟩ rfl rfl (Nat.le_of_ble_eq_true rfl) ⟨Nat.le_of_ble_eq_true rfl, Nat.le_of_ble_eq_true rfl, rfl, rfl⟩ dX0_send_39 (sn_bIp (fun r35 => ?_)) sn_x0
            refine sn_icmp_le hO 48 (by decide) dX0_send_42 ?_ ?_
            · exact hk21
            · refine sn_goto hO 134 (by decide) dX0_send_45 ?_
              exact hk20 _ _ _
  · refine sn_iconst hO kc_m1 dX0_send_10 ?_
    subst hQq
    exact sn_iret hO rfl dX0_send_11
theorem ctX0_send {w : sn_W} {p1 : Int32} {S : sn_S} {Q : Int32 → sn_S → Prop} (h : wpX0_send w p1 S Q) : sn_Ct LoX w yX0_send (ws_ yX0_send cX0_send 10 (some .int)) rmX0_send [.ref (w.2.2.1 0), .int p1] S (sn_qI Q) sn_noE := sn_Ct_of (XX_O w) (by decide) (Nat.le_of_ble_eq_true rfl) RX0 rfl (fun C hO => wkX0_send hO p1 S Q h)
def rmX7_isSafe : Room := { frames := 3, cells := 0, slots := 0, locals := 66 }
/-- SnailPost$Shells.isSafe()Z -/
def wpX7_isSafe (w : sn_W) (S : sn_S) (Q : Int32 → sn_S → Prop) : Prop :=
  sn_lp2 (fun (rc12 : Int32 → sn_S → Prop) (i10 : Int32) (S11 : sn_S) => (((1 <<< ((S11.1 92 3) &&& 31)) ≤ i10 → Q 1 S11) ∧ (¬ (1 <<< ((S11.1 92 3) &&& 31)) ≤ i10 → wpX0_ones w i10 (fun (r13 : Int32) => sn_jn (fun (S14 : sn_S) => rc12 (i10 + 1) S14) (fun (k15 : sn_S → Prop) => ((r13 = (if (0 : Int32) < ((S11.1 92 3) - (S11.1 92 2)) then ((S11.1 92 3) - (S11.1 92 2)) else (0 : Int32)) → wpX6_clears w S11 (fun (S16 : sn_S) => sn_jn (fun (S17 : sn_S) => wpX6_tells w (S17.1 92 1) S17 (fun (r19 : Int32) => ((¬ r19 = 0 → k15 S17) ∧ (r19 = 0 → Q 0 S17)))) (fun (k18 : sn_S → Prop) => sn_lp2 (fun (rc22 : Int32 → sn_S → Prop) (i20 : Int32) (S21 : sn_S) => (((S21.1 92 3) ≤ i20 → k18 S21) ∧ (¬ (S21.1 92 3) ≤ i20 → wpX0_isOf w i10 i20 (fun (r23 : Int32) => sn_jn (fun (S24 : sn_S) => rc22 (i20 + 1) S24) (fun (k25 : sn_S → Prop) => ((r23 = 0 → k25 S21) ∧ (¬ r23 = 0 → (vp_in i20 6 ∧ wpX6_adds w (S21.1 93 (i20).toNatClampNeg) S21 (fun (S26 : sn_S) => k25 S26))))))))) 0 S16))) ∧ (¬ r13 = (if (0 : Int32) < ((S11.1 92 3) - (S11.1 92 2)) then ((S11.1 92 3) - (S11.1 92 2)) else (0 : Int32)) → k15 S11))))))) 0 S
theorem wkX7_isSafe {w : sn_W} {C : sn_C} (hO : sn_Ok LoX w C RX7 cX7_isSafe 3 (some .boolean) [] "isSafe") (S : sn_S) (Q : Int32 → sn_S → Prop) : wpX7_isSafe w S Q → sn_G LoX w rmX7_isSafe (sn_qI Q) sn_noE C 0 0 0 [(0, .ref (w.2.2.1 92))] [] S := by
  unfold wpX7_isSafe
  generalize hQq : (sn_qI Q) = Qq
  refine sn_iconst hO kc_0 dX7_isSafe_0 ?_
  refine sn_istore_n hO (lv' := [(1, .int 0), (0, .ref (w.2.2.1 92))]) (by decide) rfl dX7_isSafe_1 ?_
  refine sn_sub [1, 0] rfl ?_
  refine sn_lp2_walk (Gd := fun (i10 : Int32) (S11 : sn_S) => sn_G LoX w rmX7_isSafe Qq sn_noE C 0 0 2 [(0, .ref (w.2.2.1 92)), (1, .int i10)] [] S11) ?_ _ _
  intro rc12 hrc12 i10 S11
  refine sn_iload_n hO 1 rfl dX7_isSafe_2 ?_
  refine sn_iconst hO kc_1 dX7_isSafe_3 ?_
  refine sn_aload_n hO 0 rfl dX7_isSafe_4 ?_
  refine sn_getI hO fX7_30 atX_92 dX7_isSafe_5 ?_
  refine sn_ishl hO dX7_isSafe_8 ?_
  refine sn_icmp_ge hO 110 (by decide) dX7_isSafe_9 ?_ ?_
  · refine sn_iconst hO kc_1 dX7_isSafe_110 ?_
    subst hQq
    exact sn_zret hO (ty := .boolean) rfl rfl dX7_isSafe_111
  · refine sn_iload_n hO 1 rfl dX7_isSafe_12 ?_
    refine sn_callSN hO (c2 := 0) (s2 := 0) (rm := rmX0_ones) [.int i10] csX7_41 (fun h => ctX0_ones h) ⟨Nat.le_of_ble_eq_true rfl, Nat.le_of_ble_eq_true rfl⟩ rfl rfl (Nat.le_of_ble_eq_true rfl) ⟨Nat.le_of_ble_eq_true rfl, Nat.le_of_ble_eq_true rfl, rfl, rfl⟩ dX7_isSafe_13 (sn_bIp (fun r13 => ?_)) sn_x0
    refine sn_iconst hO kc_0 dX7_isSafe_16 ?_
    refine sn_aload_n hO 0 rfl dX7_isSafe_17 ?_
    refine sn_getI hO fX7_30 atX_92 dX7_isSafe_18 ?_
    refine sn_aload_n hO 0 rfl dX7_isSafe_21 ?_
    refine sn_getI hO fX7_23 atX_92 dX7_isSafe_22 ?_
    refine sn_isub hO dX7_isSafe_25 ?_
    refine sn_mMax hO q1352 q660 q134 q661 ⟨Nat.le_of_ble_eq_true rfl, Nat.le_of_ble_eq_true rfl⟩ dX7_isSafe_26 ?_
    refine sn_jn_walk (fun (k : sn_S → Prop) => ∀ (S14 : sn_S), k S14 → sn_G LoX w rmX7_isSafe Qq sn_noE C 0 0 104 [(0, .ref (w.2.2.1 92)), (1, .int i10)] [] S14) ?_ ?_
    · intro S14
      refine sn_iinc hO (lv' := [(1, .int (i10 + 1)), (0, .ref (w.2.2.1 92))]) 1 rfl ki_1 (by decide) rfl dX7_isSafe_104 ?_
      refine sn_goto hO 2 (by decide) dX7_isSafe_107 ?_
      refine sn_sub [1, 0] rfl ?_
      exact hrc12 _ _
    · intro k15 hk15
      refine sn_icmp_eq hO 35 (by decide) dX7_isSafe_29 ?_ ?_
      · refine sn_aload_n hO 0 rfl dX7_isSafe_35 ?_
        refine sn_getF hO fX7_3 atX_92 dX7_isSafe_36 ?_
        refine sn_getFN hO fX7_51 atX_0 dX7_isSafe_39 ?_
        refine sn_callV hO (c2 := 0) (s2 := 0) (rm := rmX6_clears) [] cvX7_55 (fun _ => sn_Rv_K atX_90) (fun h => ctX6_clears h) ⟨Nat.le_of_ble_eq_true rfl, Nat.le_of_ble_eq_true rfl⟩ rfl rfl (Nat.le_of_ble_eq_true rfl) ⟨Nat.le_of_ble_eq_true rfl, Nat.le_of_ble_eq_true rfl, rfl, rfl⟩ dX7_isSafe_42 (sn_bV (fun S16 => ?_)) sn_x0
        refine sn_iconst hO kc_0 dX7_isSafe_45 ?_
        refine sn_istore_n hO (lv' := [(2, .int 0), (0, .ref (w.2.2.1 92)), (1, .int i10)]) (by decide) rfl dX7_isSafe_46 ?_
        refine sn_jn_walk (fun (k : sn_S → Prop) => ∀ (S17 : sn_S), k S17 → sn_G LoX w rmX7_isSafe Qq sn_noE C 0 0 85 [(0, .ref (w.2.2.1 92)), (1, .int i10)] [] S17) ?_ ?_
        · intro S17
          refine sn_aload_n hO 0 rfl dX7_isSafe_85 ?_
          refine sn_getF hO fX7_3 atX_92 dX7_isSafe_86 ?_
          refine sn_getFN hO fX7_51 atX_0 dX7_isSafe_89 ?_
          refine sn_aload_n hO 0 rfl dX7_isSafe_92 ?_
          refine sn_getI hO fX7_19 atX_92 dX7_isSafe_93 ?_
          refine sn_callV hO (c2 := 0) (s2 := 0) (rm := rmX6_tells) [.int (S17.1 92 1)] cvX7_68 (fun _ => sn_Rv_K atX_90) (fun h => ctX6_tells h) ⟨Nat.le_of_ble_eq_true rfl, Nat.le_of_ble_eq_true rfl⟩ rfl rfl (Nat.le_of_ble_eq_true rfl) ⟨Nat.le_of_ble_eq_true rfl, Nat.le_of_ble_eq_true rfl, rfl, rfl⟩ dX7_isSafe_96 (sn_bIp (fun r19 => ?_)) sn_x0
          refine sn_if_ne hO 104 (by decide) dX7_isSafe_99 ?_ ?_
          · exact hk15 _
          · refine sn_iconst hO kc_0 dX7_isSafe_102 ?_
            subst hQq
            exact sn_zret hO (ty := .boolean) rfl rfl dX7_isSafe_103
        · intro k18 hk18
          refine sn_sub [1, 2, 0] rfl ?_
          refine sn_lp2_walk (Gd := fun (i20 : Int32) (S21 : sn_S) => sn_G LoX w rmX7_isSafe Qq sn_noE C 0 0 47 [(0, .ref (w.2.2.1 92)), (1, .int i10), (2, .int i20)] [] S21) ?_ _ _
          intro rc22 hrc22 i20 S21
          refine sn_iload_n hO 2 rfl dX7_isSafe_47 ?_
          refine sn_aload_n hO 0 rfl dX7_isSafe_48 ?_
          refine sn_getI hO fX7_30 atX_92 dX7_isSafe_49 ?_
          refine sn_icmp_ge hO 85 (by decide) dX7_isSafe_52 ?_ ?_
          · refine sn_sub [0, 1] rfl ?_
            exact hk18 _
          · refine sn_iload_n hO 1 rfl dX7_isSafe_55 ?_
            refine sn_iload_n hO 2 rfl dX7_isSafe_56 ?_
            refine sn_callSN hO (c2 := 0) (s2 := 0) (rm := rmX0_isOf) [.int i10, .int i20] csX7_60 (fun h => ctX0_isOf h) ⟨Nat.le_of_ble_eq_true rfl, Nat.le_of_ble_eq_true rfl⟩ rfl rfl (Nat.le_of_ble_eq_true rfl) ⟨Nat.le_of_ble_eq_true rfl, Nat.le_of_ble_eq_true rfl, rfl, rfl⟩ dX7_isSafe_57 (sn_bIp (fun r23 => ?_)) sn_x0
            refine sn_jn_walk (fun (k : sn_S → Prop) => ∀ (S24 : sn_S), k S24 → sn_G LoX w rmX7_isSafe Qq sn_noE C 0 0 79 [(0, .ref (w.2.2.1 92)), (1, .int i10), (2, .int i20)] [] S24) ?_ ?_
            · intro S24
              refine sn_iinc hO (lv' := [(2, .int (i20 + 1)), (0, .ref (w.2.2.1 92)), (1, .int i10)]) 2 rfl ki_1 (by decide) rfl dX7_isSafe_79 ?_
              refine sn_goto hO 47 (by decide) dX7_isSafe_82 ?_
              refine sn_sub [1, 2, 0] rfl ?_
              exact hrc22 _ _
            · intro k25 hk25
              refine sn_if_eq hO 79 (by decide) dX7_isSafe_60 ?_ ?_
              · exact hk25 _
              · refine sn_aload_n hO 0 rfl dX7_isSafe_63 ?_
                refine sn_getF hO fX7_3 atX_92 dX7_isSafe_64 ?_
                refine sn_getFN hO fX7_51 atX_0 dX7_isSafe_67 ?_
                refine sn_aload_n hO 0 rfl dX7_isSafe_70 ?_
                refine sn_getF hO fX7_15 atX_92 dX7_isSafe_71 ?_
                refine sn_iload_n hO 2 rfl dX7_isSafe_74 ?_
                refine sn_iald hO atX_93 rfl dX7_isSafe_75 ?_
                refine sn_callV hO (c2 := 0) (s2 := 0) (rm := rmX6_adds) [.int (S21.1 93 (i20).toNatClampNeg)] cvX7_64 (fun _ => sn_Rv_K atX_90) (fun h => ctX6_adds h) ⟨Nat.le_of_ble_eq_true rfl, Nat.le_of_ble_eq_true rfl⟩ rfl rfl (Nat.le_of_ble_eq_true rfl) ⟨Nat.le_of_ble_eq_true rfl, Nat.le_of_ble_eq_true rfl, rfl, rfl⟩ dX7_isSafe_76 (sn_bV (fun S26 => ?_)) sn_x0
                exact hk25 _
      · refine sn_goto hO 104 (by decide) dX7_isSafe_32 ?_
        exact hk15 _
theorem ctX7_isSafe {w : sn_W} {S : sn_S} {Q : Int32 → sn_S → Prop} (h : wpX7_isSafe w S Q) : sn_Ct LoX w yX7_isSafe (ws_ yX7_isSafe cX7_isSafe 3 (some .boolean)) rmX7_isSafe [.ref (w.2.2.1 92)] S (sn_qI Q) sn_noE := sn_Ct_of (XX_O w) (by decide) (Nat.le_of_ble_eq_true rfl) RX7 rfl (fun C hO => wkX7_isSafe hO S Q h)
def rmX7_tries (d : Nat) : Room := { frames := 2 * d + 4, cells := 0, slots := 0, locals := 100 * d + 88 }
def okX7_tries (w : sn_W) (d : Nat) (self : Int32 → Int32 → sn_S → (sn_S → Prop) → Prop) : Prop := ∀ (p1 : Int32) (p2 : Int32) (S : sn_S) (Q : sn_S → Prop), self p1 p2 S Q → sn_Ct LoX w yX7_tries (ws_ yX7_tries cX7_tries 4 none) (rmX7_tries d) [.ref (w.2.2.1 92), .int p1, .int p2] S (sn_qV Q) sn_noE
theorem okX7_tries.use {w : sn_W} {d : Nat} {self : Int32 → Int32 → sn_S → (sn_S → Prop) → Prop} (hself : okX7_tries w d self) {p1 : Int32} {p2 : Int32} {S : sn_S} {Q : sn_S → Prop} (h : self p1 p2 S Q) : sn_Ct LoX w yX7_tries (ws_ yX7_tries cX7_tries 4 none) (rmX7_tries d) [.ref (w.2.2.1 92), .int p1, .int p2] S (sn_qV Q) sn_noE := hself _ _ _ Q h
/-- SnailPost$Shells.tries(II)V -/
def wpX7_triesF (w : sn_W) (self : Int32 → Int32 → sn_S → (sn_S → Prop) → Prop) (p1 : Int32) (p2 : Int32) (S : sn_S) (Q : sn_S → Prop) : Prop :=
  ((¬ p1 = (S.1 92 3) → sn_lp2 (fun (rc12 : Int32 → sn_S → Prop) (i10 : Int32) (S11 : sn_S) => (((1 <<< ((S11.1 92 1) &&& 31)) ≤ i10 → Q S11) ∧ (¬ (1 <<< ((S11.1 92 1) &&& 31)) ≤ i10 → ((¬ (S11.1 92 4) = 0 → Q S11) ∧ ((S11.1 92 4) = 0 → (vp_in p1 6 ∧ sn_lt (sn_pI S11 93 (p1).toNatClampNeg i10) (fun S13 => self (p1 + 1) i10 S13 (fun (S14 : sn_S) => rc12 (i10 + 1) S14)))))))) p2 S) ∧ (p1 = (S.1 92 3) → wpX7_isSafe w S (fun (r15 : Int32) (S16 : sn_S) => ((narrow .boolean (.int r15) = .int r15 ∧ fits .boolean (.int r15) = true) ∧ sn_lt (sn_pI S16 92 4 r15) (fun S17 => Q S17)))))
theorem wkX7_tries {w : sn_W} {C : sn_C} {d : Nat} {self : Int32 → Int32 → sn_S → (sn_S → Prop) → Prop} (hself : okX7_tries w d self) (hO : sn_Ok LoX w C RX7 cX7_tries 4 none [] "tries") (p1 : Int32) (p2 : Int32) (S : sn_S) (Q : sn_S → Prop) : wpX7_triesF w self p1 p2 S Q → sn_G LoX w (rmX7_tries (d + 1)) (sn_qV Q) sn_noE C 0 0 0 [(0, .ref (w.2.2.1 92)), (1, .int p1), (2, .int p2)] [] S := by
  unfold wpX7_triesF
  generalize hQq : (sn_qV Q) = Qq
  refine sn_iload_n hO 1 rfl dX7_tries_0 ?_
  refine sn_aload_n hO 0 rfl dX7_tries_1 ?_
  refine sn_getI hO fX7_30 atX_92 dX7_tries_2 ?_
  refine sn_icmp_ne hO 17 (by decide) dX7_tries_5 ?_ ?_
  · refine sn_iload_n hO 2 rfl dX7_tries_17 ?_
    refine sn_istore_n hO (lv' := [(3, .int p2), (0, .ref (w.2.2.1 92)), (1, .int p1), (2, .int p2)]) (by decide) rfl dX7_tries_18 ?_
    refine sn_sub [1, 2, 0] rfl ?_
    refine sn_lp2_walk (Gd := fun (i10 : Int32) (S11 : sn_S) => sn_G LoX w (rmX7_tries (d + 1)) Qq sn_noE C 0 0 19 [(0, .ref (w.2.2.1 92)), (1, .int p1), (3, .int i10)] [] S11) ?_ _ _
    intro rc12 hrc12 i10 S11
    refine sn_iload_n hO 2 rfl dX7_tries_19 ?_
    refine sn_iconst hO kc_1 dX7_tries_20 ?_
    refine sn_aload_n hO 0 rfl dX7_tries_21 ?_
    refine sn_getI hO fX7_19 atX_92 dX7_tries_22 ?_
    refine sn_ishl hO dX7_tries_25 ?_
    refine sn_icmp_ge hO 57 (by decide) dX7_tries_26 ?_ ?_
    · subst hQq
      exact sn_vret hO rfl dX7_tries_57
    · refine sn_aload_n hO 0 rfl dX7_tries_29 ?_
      refine sn_getI hO fX7_26 atX_92 dX7_tries_30 ?_
      refine sn_if_ne hO 57 (by decide) dX7_tries_33 ?_ ?_
      · subst hQq
        exact sn_vret hO rfl dX7_tries_57
      · refine sn_aload_n hO 0 rfl dX7_tries_36 ?_
        refine sn_getF hO fX7_15 atX_92 dX7_tries_37 ?_
        refine sn_iload_n hO 1 rfl dX7_tries_40 ?_
        refine sn_iload_n hO 2 rfl dX7_tries_41 ?_
        refine sn_iast hO atX_93 rfl dX7_tries_42 ?_
        refine sn_nmS (fun S13 => ?_)
        refine sn_aload_n hO 0 rfl dX7_tries_43 ?_
        refine sn_iload_n hO 1 rfl dX7_tries_44 ?_
        refine sn_iconst hO kc_1 dX7_tries_45 ?_
        refine sn_iadd hO dX7_tries_46 ?_
        refine sn_iload_n hO 2 rfl dX7_tries_47 ?_
        refine sn_callV hO (c2 := 0) (s2 := 0) (rm := (rmX7_tries d)) [.int (p1 + 1), .int i10] cvX7_33 (fun _ => sn_Rv_K atX_92) (fun h => okX7_tries.use hself h) ⟨by simp only [rmX7_tries]; omega, by simp only [rmX7_tries]; omega⟩ rfl rfl (Nat.le_of_ble_eq_true rfl) ⟨Nat.le_of_ble_eq_true rfl, Nat.le_of_ble_eq_true rfl, rfl, rfl⟩ dX7_tries_48 (sn_bV (fun S14 => ?_)) sn_x0
        refine sn_iinc hO (lv' := [(3, .int (i10 + 1)), (0, .ref (w.2.2.1 92)), (1, .int p1)]) 2 rfl ki_1 (by decide) rfl dX7_tries_51 ?_
        refine sn_goto hO 19 (by decide) dX7_tries_54 ?_
        refine sn_sub [1, 2, 0] rfl ?_
        exact hrc12 _ _
  · refine sn_aload_n hO 0 rfl dX7_tries_8 ?_
    refine sn_aload_n hO 0 rfl dX7_tries_9 ?_
    refine sn_callV hO (c2 := 0) (s2 := 0) (rm := rmX7_isSafe) [] cvX7_37 (fun _ => sn_Rv_K atX_92) (fun h => ctX7_isSafe h) ⟨by simp only [rmX7_isSafe, rmX7_tries]; omega, by simp only [rmX7_isSafe, rmX7_tries]; omega⟩ rfl rfl (Nat.le_of_ble_eq_true rfl) ⟨Nat.le_of_ble_eq_true rfl, Nat.le_of_ble_eq_true rfl, rfl, rfl⟩ dX7_tries_10 (sn_bI (fun r15 S16 => ?_)) sn_x0
    refine sn_putIP hO fX7_26 atX_92 dX7_tries_13 ?_
    refine sn_nmS (fun S17 => ?_)
    subst hQq
    exact sn_vret hO rfl dX7_tries_16
def wpX7_tries (w : sn_W) : Nat → Int32 → Int32 → sn_S → (sn_S → Prop) → Prop
  | 0 => fun _ _ _ _ => False
  | d + 1 => wpX7_triesF w (wpX7_tries w d)
theorem okX7_tries_all {w : sn_W} : ∀ d : Nat, okX7_tries w d (wpX7_tries w d)
  | 0 => fun _ _ _ _ => fun h => h.elim
  | d + 1 => fun p1 p2 S Q h => sn_Ct_of (XX_O w) (by decide) (Nat.le_of_ble_eq_true rfl) RX7 rfl (fun C hO => wkX7_tries (okX7_tries_all d) hO p1 p2 S Q h)
theorem ctX7_tries {w : sn_W} (d : Nat) {p1 : Int32} {p2 : Int32} {S : sn_S} {Q : sn_S → Prop} (h : wpX7_tries w d p1 p2 S Q) : sn_Ct LoX w yX7_tries (ws_ yX7_tries cX7_tries 4 none) (rmX7_tries d) [.ref (w.2.2.1 92), .int p1, .int p2] S (sn_qV Q) sn_noE := okX7_tries_all d _ _ _ Q h
def rmX7_finds : Room := { frames := 21, cells := 0, slots := 0, locals := 911 }
/-- SnailPost$Shells.finds(II)V -/
def wpX7_finds (w : sn_W) (p1 : Int32) (p2 : Int32) (S : sn_S) (Q : sn_S → Prop) : Prop :=
  sn_lt (sn_pI S 92 1 p1) (fun S10 => sn_lt (sn_pI S10 92 2 p2) (fun S11 => sn_lt (sn_pI S11 92 4 0) (fun S12 => sn_lt (sn_pI S12 92 3 1) (fun S13 => sn_jn (fun (S14 : sn_S) => sn_lt (sn_pI S14 92 3 ((S14.1 92 3) - 1)) (fun S16 => Q S16)) (fun (k15 : sn_S → Prop) => sn_lp1 (fun (rc18 : sn_S → Prop) (S17 : sn_S) => ((¬ (S17.1 92 4) = 0 → k15 S17) ∧ ((S17.1 92 4) = 0 → wpX7_tries w 8 0 1 S17 (fun (S19 : sn_S) => sn_lt (sn_pI S19 92 3 ((S19.1 92 3) + 1)) (fun S20 => rc18 S20))))) S13)))))
theorem wkX7_finds {w : sn_W} {C : sn_C} (hO : sn_Ok LoX w C RX7 cX7_finds 3 none [] "finds") (p1 : Int32) (p2 : Int32) (S : sn_S) (Q : sn_S → Prop) : wpX7_finds w p1 p2 S Q → sn_G LoX w rmX7_finds (sn_qV Q) sn_noE C 0 0 0 [(0, .ref (w.2.2.1 92)), (1, .int p1), (2, .int p2)] [] S := by
  unfold wpX7_finds
  generalize hQq : (sn_qV Q) = Qq
  refine sn_aload_n hO 0 rfl dX7_finds_0 ?_
  refine sn_iload_n hO 1 rfl dX7_finds_1 ?_
  refine sn_putI hO fX7_19 atX_92 rfl rfl dX7_finds_2 ?_
  refine sn_nmS (fun S10 => ?_)
  refine sn_aload_n hO 0 rfl dX7_finds_5 ?_
  refine sn_iload_n hO 2 rfl dX7_finds_6 ?_
  refine sn_putI hO fX7_23 atX_92 rfl rfl dX7_finds_7 ?_
  refine sn_nmS (fun S11 => ?_)
  refine sn_aload_n hO 0 rfl dX7_finds_10 ?_
  refine sn_iconst hO kc_0 dX7_finds_11 ?_
  refine sn_putI hO fX7_26 atX_92 rfl rfl dX7_finds_12 ?_
  refine sn_nmS (fun S12 => ?_)
  refine sn_aload_n hO 0 rfl dX7_finds_15 ?_
  refine sn_iconst hO kc_1 dX7_finds_16 ?_
  refine sn_putI hO fX7_30 atX_92 rfl rfl dX7_finds_17 ?_
  refine sn_nmS (fun S13 => ?_)
  refine sn_jn_walk (fun (k : sn_S → Prop) => ∀ (S14 : sn_S), k S14 → sn_G LoX w rmX7_finds Qq sn_noE C 0 0 46 [(0, .ref (w.2.2.1 92))] [] S14) ?_ ?_
  · intro S14
    refine sn_aload_n hO 0 rfl dX7_finds_46 ?_
    refine sn_dup hO rfl dX7_finds_47 ?_
    refine sn_getI hO fX7_30 atX_92 dX7_finds_48 ?_
    refine sn_iconst hO kc_1 dX7_finds_51 ?_
    refine sn_isub hO dX7_finds_52 ?_
    refine sn_putI hO fX7_30 atX_92 rfl rfl dX7_finds_53 ?_
    refine sn_nmS (fun S16 => ?_)
    subst hQq
    exact sn_vret hO rfl dX7_finds_56
  · intro k15 hk15
    refine sn_sub [0] rfl ?_
    refine sn_lp1_walk (Gd := fun (S17 : sn_S) => sn_G LoX w rmX7_finds Qq sn_noE C 0 0 20 [(0, .ref (w.2.2.1 92))] [] S17) ?_ _
    intro rc18 hrc18 S17
    refine sn_aload_n hO 0 rfl dX7_finds_20 ?_
    refine sn_getI hO fX7_26 atX_92 dX7_finds_21 ?_
    refine sn_if_ne hO 46 (by decide) dX7_finds_24 ?_ ?_
    · exact hk15 _
    · refine sn_aload_n hO 0 rfl dX7_finds_27 ?_
      refine sn_iconst hO kc_0 dX7_finds_28 ?_
      refine sn_iconst hO kc_1 dX7_finds_29 ?_
      refine sn_callV hO (c2 := 0) (s2 := 0) (rm := (rmX7_tries 8)) [.int 0, .int 1] cvX7_33 (fun _ => sn_Rv_K atX_92) (fun h => ctX7_tries 8 h) ⟨Nat.le_of_ble_eq_true rfl, Nat.le_of_ble_eq_true rfl⟩ rfl rfl (Nat.le_of_ble_eq_true rfl) ⟨Nat.le_of_ble_eq_true rfl, Nat.le_of_ble_eq_true rfl, rfl, rfl⟩ dX7_finds_30 (sn_bV (fun S19 => ?_)) sn_x0
      refine sn_aload_n hO 0 rfl dX7_finds_33 ?_
      refine sn_dup hO rfl dX7_finds_34 ?_
      refine sn_getI hO fX7_30 atX_92 dX7_finds_35 ?_
      refine sn_iconst hO kc_1 dX7_finds_38 ?_
      refine sn_iadd hO dX7_finds_39 ?_
      refine sn_putI hO fX7_30 atX_92 rfl rfl dX7_finds_40 ?_
      refine sn_nmS (fun S20 => ?_)
      refine sn_goto hO 20 (by decide) dX7_finds_43 ?_
      exact hrc18 _
theorem ctX7_finds {w : sn_W} {p1 : Int32} {p2 : Int32} {S : sn_S} {Q : sn_S → Prop} (h : wpX7_finds w p1 p2 S Q) : sn_Ct LoX w yX7_finds (ws_ yX7_finds cX7_finds 3 none) rmX7_finds [.ref (w.2.2.1 92), .int p1, .int p2] S (sn_qV Q) sn_noE := sn_Ct_of (XX_O w) (by decide) (Nat.le_of_ble_eq_true rfl) RX7 rfl (fun C hO => wkX7_finds hO p1 p2 S Q h)
def rmX0_shells : Room := { frames := 22, cells := 0, slots := 0, locals := 933 }
/-- SnailPost.shells(III)I -/
def wpX0_shells (w : sn_W) (p1 : Int32) (p2 : Int32) (p3 : Int32) (S : sn_S) (Q : Int32 → sn_S → Prop) : Prop :=
  wpX0_in w p1 1 3 (fun (r10 : Int32) => ((r10 = 0 → Q (-1) S) ∧ (¬ r10 = 0 → wpX0_in w p2 0 2 (fun (r11 : Int32) => ((¬ r11 = 0 → wpX7_finds w p1 p2 S (fun (S12 : sn_S) => ((¬ p3 = (-1) → wpX0_in w p3 0 ((S12.1 92 3) - 1) (fun (r13 : Int32) => ((r13 = 0 → Q (-1) S12) ∧ (¬ r13 = 0 → (vp_in p3 6 ∧ Q (S12.1 93 (p3).toNatClampNeg) S12))))) ∧ (p3 = (-1) → Q (S12.1 92 3) S12)))) ∧ (r11 = 0 → Q (-1) S))))))
theorem wkX0_shells {w : sn_W} {C : sn_C} (hO : sn_Ok LoX w C RX0 cX0_shells 4 (some .int) [] "shells") (p1 : Int32) (p2 : Int32) (p3 : Int32) (S : sn_S) (Q : Int32 → sn_S → Prop) : wpX0_shells w p1 p2 p3 S Q → sn_G LoX w rmX0_shells (sn_qI Q) sn_noE C 0 0 0 [(0, .ref (w.2.2.1 0)), (1, .int p1), (2, .int p2), (3, .int p3)] [] S := by
  unfold wpX0_shells
  generalize hQq : (sn_qI Q) = Qq
  refine sn_iload_n hO 1 rfl dX0_shells_0 ?_
  refine sn_iconst hO kc_1 dX0_shells_1 ?_
  refine sn_iconst hO kc_3 dX0_shells_2 ?_
  refine sn_callS hO (c2 := 0) (s2 := 0) (rm := rmX0_in) [.int p1, .int 1, .int 3] csX0_112 (fun h => ctX0_in h) ⟨Nat.le_of_ble_eq_true rfl, Nat.le_of_ble_eq_true rfl⟩ rfl rfl (Nat.le_of_ble_eq_true rfl) ⟨Nat.le_of_ble_eq_true rfl, Nat.le_of_ble_eq_true rfl, rfl, rfl⟩ dX0_shells_3 (sn_bIp (fun r10 => ?_)) sn_x0
  refine sn_if_eq hO 18 (by decide) dX0_shells_6 ?_ ?_
  · refine sn_iconst hO kc_m1 dX0_shells_18 ?_
    subst hQq
    exact sn_iret hO rfl dX0_shells_19
  · refine sn_iload_n hO 2 rfl dX0_shells_9 ?_
    refine sn_iconst hO kc_0 dX0_shells_10 ?_
    refine sn_iconst hO kc_2 dX0_shells_11 ?_
    refine sn_callS hO (c2 := 0) (s2 := 0) (rm := rmX0_in) [.int p2, .int 0, .int 2] csX0_112 (fun h => ctX0_in h) ⟨Nat.le_of_ble_eq_true rfl, Nat.le_of_ble_eq_true rfl⟩ rfl rfl (Nat.le_of_ble_eq_true rfl) ⟨Nat.le_of_ble_eq_true rfl, Nat.le_of_ble_eq_true rfl, rfl, rfl⟩ dX0_shells_12 (sn_bIp (fun r11 => ?_)) sn_x0
    refine sn_if_ne hO 20 (by decide) dX0_shells_15 ?_ ?_
    · refine sn_aload_n hO 0 rfl dX0_shells_20 ?_
      refine sn_getF hO fX0_80 atX_0 dX0_shells_21 ?_
      refine sn_iload_n hO 1 rfl dX0_shells_24 ?_
      refine sn_iload_n hO 2 rfl dX0_shells_25 ?_
      refine sn_callV hO (c2 := 0) (s2 := 0) (rm := rmX7_finds) [.int p1, .int p2] cvX0_325 (fun _ => sn_Rv_K atX_92) (fun h => ctX7_finds h) ⟨Nat.le_of_ble_eq_true rfl, Nat.le_of_ble_eq_true rfl⟩ rfl rfl (Nat.le_of_ble_eq_true rfl) ⟨Nat.le_of_ble_eq_true rfl, Nat.le_of_ble_eq_true rfl, rfl, rfl⟩ dX0_shells_26 (sn_bV (fun S12 => ?_)) sn_x0
      refine sn_iload_n hO 3 rfl dX0_shells_29 ?_
      refine sn_iconst hO kc_m1 dX0_shells_30 ?_
      refine sn_icmp_ne hO 44 (by decide) dX0_shells_31 ?_ ?_
      · refine sn_iload_n hO 3 rfl dX0_shells_44 ?_
        refine sn_iconst hO kc_0 dX0_shells_45 ?_
        refine sn_aload_n hO 0 rfl dX0_shells_46 ?_
        refine sn_getF hO fX0_80 atX_0 dX0_shells_47 ?_
        refine sn_getIN hO fX0_328 atX_92 dX0_shells_50 ?_
        refine sn_iconst hO kc_1 dX0_shells_53 ?_
        refine sn_isub hO dX0_shells_54 ?_
        refine sn_callS hO (c2 := 0) (s2 := 0) (rm := rmX0_in) [.int p3, .int 0, .int ((S12.1 92 3) - 1)] csX0_112 (fun h => ctX0_in h) ⟨Nat.le_of_ble_eq_true rfl, Nat.le_of_ble_eq_true rfl⟩ rfl rfl (Nat.le_of_ble_eq_true rfl) ⟨Nat.le_of_ble_eq_true rfl, Nat.le_of_ble_eq_true rfl, rfl, rfl⟩ dX0_shells_55 (sn_bIp (fun r13 => ?_)) sn_x0
        refine sn_if_eq hO 73 (by decide) dX0_shells_58 ?_ ?_
        · refine sn_iconst hO kc_m1 dX0_shells_73 ?_
          subst hQq
          exact sn_iret hO rfl dX0_shells_74
        · refine sn_aload_n hO 0 rfl dX0_shells_61 ?_
          refine sn_getF hO fX0_80 atX_0 dX0_shells_62 ?_
          refine sn_getFN hO fX0_330 atX_92 dX0_shells_65 ?_
          refine sn_iload_n hO 3 rfl dX0_shells_68 ?_
          refine sn_iald hO atX_93 rfl dX0_shells_69 ?_
          refine sn_goto hO 74 (by decide) dX0_shells_70 ?_
          subst hQq
          exact sn_iret hO rfl dX0_shells_74
      · refine sn_aload_n hO 0 rfl dX0_shells_34 ?_
        refine sn_getF hO fX0_80 atX_0 dX0_shells_35 ?_
        refine sn_getIN hO fX0_328 atX_92 dX0_shells_38 ?_
        refine sn_goto hO 74 (by decide) dX0_shells_41 ?_
        subst hQq
        exact sn_iret hO rfl dX0_shells_74
    · refine sn_iconst hO kc_m1 dX0_shells_18 ?_
      subst hQq
      exact sn_iret hO rfl dX0_shells_19
theorem ctX0_shells {w : sn_W} {p1 : Int32} {p2 : Int32} {p3 : Int32} {S : sn_S} {Q : Int32 → sn_S → Prop} (h : wpX0_shells w p1 p2 p3 S Q) : sn_Ct LoX w yX0_shells (ws_ yX0_shells cX0_shells 4 (some .int)) rmX0_shells [.ref (w.2.2.1 0), .int p1, .int p2, .int p3] S (sn_qI Q) sn_noE := sn_Ct_of (XX_O w) (by decide) (Nat.le_of_ble_eq_true rfl) RX0 rfl (fun C hO => wkX0_shells hO p1 p2 p3 S Q h)
def rmX0_cross : Room := { frames := 2, cells := 0, slots := 0, locals := 43 }
/-- SnailPost.cross(II)I -/
def wpX0_cross (w : sn_W) (p1 : Int32) (p2 : Int32) (S : sn_S) (Q : Int32 → sn_S → Prop) : Prop :=
  ((¬ p1 = p2 → wpX0_isSnail w p1 S (fun (r10 : Int32) => sn_jn (κ := Prop) (wpX0_refuse w (-2) S (fun (r12 : Int32) (S13 : sn_S) => Q r12 S13)) (fun (k11 : Prop) => ((r10 = 0 → k11) ∧ (¬ r10 = 0 → wpX0_isSnail w p2 S (fun (r14 : Int32) => ((¬ r14 = 0 → ((¬ (S.1 2 10) = 12 → (vp_in (2 * (S.1 2 10)) 24 ∧ sn_lt (sn_pI S 8 ((2 * (S.1 2 10))).toNatClampNeg p1) (fun S15 => (vp_in ((2 * (S15.1 2 10)) + 1) 24 ∧ sn_lt (sn_pI S15 8 (((2 * (S15.1 2 10)) + 1)).toNatClampNeg p2) (fun S16 => sn_lt (sn_pI S16 2 10 ((S16.1 2 10) + 1)) (fun S17 => wpX0_told w (S17.1 2 10) S17 (fun (r18 : Int32) (S19 : sn_S) => Q r18 S19))))))) ∧ ((S.1 2 10) = 12 → wpX0_refuse w (-5) S (fun (r20 : Int32) (S21 : sn_S) => Q r20 S21)))) ∧ (r14 = 0 → k11)))))))) ∧ (p1 = p2 → wpX0_refuse w (-1) S (fun (r22 : Int32) (S23 : sn_S) => Q r22 S23)))
theorem wkX0_cross {w : sn_W} {C : sn_C} (hO : sn_Ok LoX w C RX0 cX0_cross 3 (some .int) [] "cross") (p1 : Int32) (p2 : Int32) (S : sn_S) (Q : Int32 → sn_S → Prop) : wpX0_cross w p1 p2 S Q → sn_G LoX w rmX0_cross (sn_qI Q) sn_noE C 0 0 0 [(0, .ref (w.2.2.1 0)), (1, .int p1), (2, .int p2)] [] S := by
  unfold wpX0_cross
  generalize hQq : (sn_qI Q) = Qq
  refine sn_iload_n hO 1 rfl dX0_cross_0 ?_
  refine sn_iload_n hO 2 rfl dX0_cross_1 ?_
  refine sn_icmp_ne hO 11 (by decide) dX0_cross_2 ?_ ?_
  · refine sn_aload_n hO 0 rfl dX0_cross_11 ?_
    refine sn_iload_n hO 1 rfl dX0_cross_12 ?_
    refine sn_callV hO (c2 := 0) (s2 := 0) (rm := rmX0_isSnail) [.int p1] cvX0_158 (fun _ => sn_Rv_K atX_0) (fun h => ctX0_isSnail h) ⟨Nat.le_of_ble_eq_true rfl, Nat.le_of_ble_eq_true rfl⟩ rfl rfl (Nat.le_of_ble_eq_true rfl) ⟨Nat.le_of_ble_eq_true rfl, Nat.le_of_ble_eq_true rfl, rfl, rfl⟩ dX0_cross_13 (sn_bIp (fun r10 => ?_)) sn_x0
    refine sn_jn_walk (fun (k : Prop) => k → sn_G LoX w rmX0_cross Qq sn_noE C 0 0 27 [(0, .ref (w.2.2.1 0))] [] S) ?_ ?_
    · refine sn_aload_n hO 0 rfl dX0_cross_27 ?_
      refine sn_bipush hO kb_m2 dX0_cross_28 ?_
      refine sn_callV hO (c2 := 0) (s2 := 0) (rm := rmX0_refuse) [.int (-2)] cvX0_122 (fun _ => sn_Rv_K atX_0) (fun h => ctX0_refuse h) ⟨Nat.le_of_ble_eq_true rfl, Nat.le_of_ble_eq_true rfl⟩ rfl rfl (Nat.le_of_ble_eq_true rfl) ⟨Nat.le_of_ble_eq_true rfl, Nat.le_of_ble_eq_true rfl, rfl, rfl⟩ dX0_cross_30 (sn_bI (fun r12 S13 => ?_)) sn_x0
      subst hQq
      exact sn_iret hO rfl dX0_cross_33
    · intro k11 hk11
      refine sn_if_eq hO 27 (by decide) dX0_cross_16 ?_ ?_
      · refine sn_sub [0] rfl ?_
        exact hk11
      · refine sn_aload_n hO 0 rfl dX0_cross_19 ?_
        refine sn_iload_n hO 2 rfl dX0_cross_20 ?_
        refine sn_callV hO (c2 := 0) (s2 := 0) (rm := rmX0_isSnail) [.int p2] cvX0_158 (fun _ => sn_Rv_K atX_0) (fun h => ctX0_isSnail h) ⟨Nat.le_of_ble_eq_true rfl, Nat.le_of_ble_eq_true rfl⟩ rfl rfl (Nat.le_of_ble_eq_true rfl) ⟨Nat.le_of_ble_eq_true rfl, Nat.le_of_ble_eq_true rfl, rfl, rfl⟩ dX0_cross_21 (sn_bIp (fun r14 => ?_)) sn_x0
        refine sn_if_ne hO 34 (by decide) dX0_cross_24 ?_ ?_
        · refine sn_aload_n hO 0 rfl dX0_cross_34 ?_
          refine sn_getF hO fX0_16 atX_0 dX0_cross_35 ?_
          refine sn_getIN hO fX0_331 atX_2 dX0_cross_38 ?_
          refine sn_bipush hO kb_12 dX0_cross_41 ?_
          refine sn_icmp_ne hO 53 (by decide) dX0_cross_43 ?_ ?_
          · refine sn_aload_n hO 0 rfl dX0_cross_53 ?_
            refine sn_getF hO fX0_16 atX_0 dX0_cross_54 ?_
            refine sn_getFN hO fX0_334 atX_2 dX0_cross_57 ?_
            refine sn_iconst hO kc_2 dX0_cross_60 ?_
            refine sn_aload_n hO 0 rfl dX0_cross_61 ?_
            refine sn_getF hO fX0_16 atX_0 dX0_cross_62 ?_
            refine sn_getIN hO fX0_331 atX_2 dX0_cross_65 ?_
            refine sn_imul hO dX0_cross_68 ?_
            refine sn_iload_n hO 1 rfl dX0_cross_69 ?_
            refine sn_iast hO atX_8 rfl dX0_cross_70 ?_
            refine sn_nmS (fun S15 => ?_)
            refine sn_aload_n hO 0 rfl dX0_cross_71 ?_
            refine sn_getF hO fX0_16 atX_0 dX0_cross_72 ?_
            refine sn_getFN hO fX0_334 atX_2 dX0_cross_75 ?_
            refine sn_iconst hO kc_2 dX0_cross_78 ?_
            refine sn_aload_n hO 0 rfl dX0_cross_79 ?_
            refine sn_getF hO fX0_16 atX_0 dX0_cross_80 ?_
            refine sn_getIN hO fX0_331 atX_2 dX0_cross_83 ?_
            refine sn_imul hO dX0_cross_86 ?_
            refine sn_iconst hO kc_1 dX0_cross_87 ?_
            refine sn_iadd hO dX0_cross_88 ?_
            refine sn_iload_n hO 2 rfl dX0_cross_89 ?_
            refine sn_iast hO atX_8 rfl dX0_cross_90 ?_
            refine sn_nmS (fun S16 => ?_)
            refine sn_aload_n hO 0 rfl dX0_cross_91 ?_
            refine sn_getF hO fX0_16 atX_0 dX0_cross_92 ?_
            refine sn_dup hO rfl dX0_cross_95 ?_
            refine sn_getIN hO fX0_331 atX_2 dX0_cross_96 ?_
            refine sn_iconst hO kc_1 dX0_cross_99 ?_
            refine sn_iadd hO dX0_cross_100 ?_
            refine sn_putIN hO fX0_331 atX_2 rfl rfl dX0_cross_101 ?_
            refine sn_nmS (fun S17 => ?_)
            refine sn_aload_n hO 0 rfl dX0_cross_104 ?_
            refine sn_aload_n hO 0 rfl dX0_cross_105 ?_
            refine sn_getF hO fX0_16 atX_0 dX0_cross_106 ?_
            refine sn_getIN hO fX0_331 atX_2 dX0_cross_109 ?_
            refine sn_callV hO (c2 := 0) (s2 := 0) (rm := rmX0_told) [.int (S17.1 2 10)] cvX0_129 (fun _ => sn_Rv_K atX_0) (fun h => ctX0_told h) ⟨Nat.le_of_ble_eq_true rfl, Nat.le_of_ble_eq_true rfl⟩ rfl rfl (Nat.le_of_ble_eq_true rfl) ⟨Nat.le_of_ble_eq_true rfl, Nat.le_of_ble_eq_true rfl, rfl, rfl⟩ dX0_cross_112 (sn_bI (fun r18 S19 => ?_)) sn_x0
            subst hQq
            exact sn_iret hO rfl dX0_cross_115
          · refine sn_aload_n hO 0 rfl dX0_cross_46 ?_
            refine sn_bipush hO kb_m5 dX0_cross_47 ?_
            refine sn_callV hO (c2 := 0) (s2 := 0) (rm := rmX0_refuse) [.int (-5)] cvX0_122 (fun _ => sn_Rv_K atX_0) (fun h => ctX0_refuse h) ⟨Nat.le_of_ble_eq_true rfl, Nat.le_of_ble_eq_true rfl⟩ rfl rfl (Nat.le_of_ble_eq_true rfl) ⟨Nat.le_of_ble_eq_true rfl, Nat.le_of_ble_eq_true rfl, rfl, rfl⟩ dX0_cross_49 (sn_bI (fun r20 S21 => ?_)) sn_x0
            subst hQq
            exact sn_iret hO rfl dX0_cross_52
        · refine sn_sub [0] rfl ?_
          exact hk11
  · refine sn_aload_n hO 0 rfl dX0_cross_5 ?_
    refine sn_iconst hO kc_m1 dX0_cross_6 ?_
    refine sn_callV hO (c2 := 0) (s2 := 0) (rm := rmX0_refuse) [.int (-1)] cvX0_122 (fun _ => sn_Rv_K atX_0) (fun h => ctX0_refuse h) ⟨Nat.le_of_ble_eq_true rfl, Nat.le_of_ble_eq_true rfl⟩ rfl rfl (Nat.le_of_ble_eq_true rfl) ⟨Nat.le_of_ble_eq_true rfl, Nat.le_of_ble_eq_true rfl, rfl, rfl⟩ dX0_cross_7 (sn_bI (fun r22 S23 => ?_)) sn_x0
    subst hQq
    exact sn_iret hO rfl dX0_cross_10
theorem ctX0_cross {w : sn_W} {p1 : Int32} {p2 : Int32} {S : sn_S} {Q : Int32 → sn_S → Prop} (h : wpX0_cross w p1 p2 S Q) : sn_Ct LoX w yX0_cross (ws_ yX0_cross cX0_cross 3 (some .int)) rmX0_cross [.ref (w.2.2.1 0), .int p1, .int p2] S (sn_qI Q) sn_noE := sn_Ct_of (XX_O w) (by decide) (Nat.le_of_ble_eq_true rfl) RX0 rfl (fun C hO => wkX0_cross hO p1 p2 S Q h)
def rmX0_drop : Room := { frames := 2, cells := 0, slots := 0, locals := 42 }
/-- SnailPost.drop(I)I -/
def wpX0_drop (w : sn_W) (p1 : Int32) (S : sn_S) (Q : Int32 → sn_S → Prop) : Prop :=
  wpX0_in w p1 0 ((S.1 2 10) - 1) (fun (r10 : Int32) => ((¬ r10 = 0 → sn_lt (2 * p1) (fun x11 => sn_jn (fun (S12 : sn_S) => sn_lt (sn_pI S12 2 10 ((S12.1 2 10) - 1)) (fun S14 => wpX0_told w (S14.1 2 10) S14 (fun (r15 : Int32) (S16 : sn_S) => Q r15 S16))) (fun (k13 : sn_S → Prop) => sn_lp2 (fun (rc19 : Int32 → sn_S → Prop) (i17 : Int32) (S18 : sn_S) => (((2 * (S18.1 2 10)) ≤ (i17 + 2) → k13 S18) ∧ (¬ (2 * (S18.1 2 10)) ≤ (i17 + 2) → (vp_in (i17 + 2) 24 ∧ (vp_in i17 24 ∧ sn_lt (sn_pI S18 8 (i17).toNatClampNeg (S18.1 8 ((i17 + 2)).toNatClampNeg)) (fun S20 => rc19 (i17 + 1) S20)))))) x11 S))) ∧ (r10 = 0 → wpX0_refuse w (-2) S (fun (r21 : Int32) (S22 : sn_S) => Q r21 S22))))
theorem wkX0_drop {w : sn_W} {C : sn_C} (hO : sn_Ok LoX w C RX0 cX0_drop 3 (some .int) [] "drop") (p1 : Int32) (S : sn_S) (Q : Int32 → sn_S → Prop) : wpX0_drop w p1 S Q → sn_G LoX w rmX0_drop (sn_qI Q) sn_noE C 0 0 0 [(0, .ref (w.2.2.1 0)), (1, .int p1)] [] S := by
  unfold wpX0_drop
  generalize hQq : (sn_qI Q) = Qq
  refine sn_iload_n hO 1 rfl dX0_drop_0 ?_
  refine sn_iconst hO kc_0 dX0_drop_1 ?_
  refine sn_aload_n hO 0 rfl dX0_drop_2 ?_
  refine sn_getF hO fX0_16 atX_0 dX0_drop_3 ?_
  refine sn_getIN hO fX0_331 atX_2 dX0_drop_6 ?_
  refine sn_iconst hO kc_1 dX0_drop_9 ?_
  refine sn_isub hO dX0_drop_10 ?_
  refine sn_callS hO (c2 := 0) (s2 := 0) (rm := rmX0_in) [.int p1, .int 0, .int ((S.1 2 10) - 1)] csX0_112 (fun h => ctX0_in h) ⟨Nat.le_of_ble_eq_true rfl, Nat.le_of_ble_eq_true rfl⟩ rfl rfl (Nat.le_of_ble_eq_true rfl) ⟨Nat.le_of_ble_eq_true rfl, Nat.le_of_ble_eq_true rfl, rfl, rfl⟩ dX0_drop_11 (sn_bIp (fun r10 => ?_)) sn_x0
  refine sn_if_ne hO 24 (by decide) dX0_drop_14 ?_ ?_
  · refine sn_iconst hO kc_2 dX0_drop_24 ?_
    refine sn_iload_n hO 1 rfl dX0_drop_25 ?_
    refine sn_imul hO dX0_drop_26 ?_
    refine sn_nmI (fun x11 => ?_)
    refine sn_istore_n hO (lv' := [(2, .int x11), (0, .ref (w.2.2.1 0)), (1, .int p1)]) (by decide) rfl dX0_drop_27 ?_
    refine sn_jn_walk (fun (k : sn_S → Prop) => ∀ (S12 : sn_S), k S12 → sn_G LoX w rmX0_drop Qq sn_noE C 0 0 69 [(0, .ref (w.2.2.1 0))] [] S12) ?_ ?_
    · intro S12
      refine sn_aload_n hO 0 rfl dX0_drop_69 ?_
      refine sn_getF hO fX0_16 atX_0 dX0_drop_70 ?_
      refine sn_dup hO rfl dX0_drop_73 ?_
      refine sn_getIN hO fX0_331 atX_2 dX0_drop_74 ?_
      refine sn_iconst hO kc_1 dX0_drop_77 ?_
      refine sn_isub hO dX0_drop_78 ?_
      refine sn_putIN hO fX0_331 atX_2 rfl rfl dX0_drop_79 ?_
      refine sn_nmS (fun S14 => ?_)
      refine sn_aload_n hO 0 rfl dX0_drop_82 ?_
      refine sn_aload_n hO 0 rfl dX0_drop_83 ?_
      refine sn_getF hO fX0_16 atX_0 dX0_drop_84 ?_
      refine sn_getIN hO fX0_331 atX_2 dX0_drop_87 ?_
      refine sn_callV hO (c2 := 0) (s2 := 0) (rm := rmX0_told) [.int (S14.1 2 10)] cvX0_129 (fun _ => sn_Rv_K atX_0) (fun h => ctX0_told h) ⟨Nat.le_of_ble_eq_true rfl, Nat.le_of_ble_eq_true rfl⟩ rfl rfl (Nat.le_of_ble_eq_true rfl) ⟨Nat.le_of_ble_eq_true rfl, Nat.le_of_ble_eq_true rfl, rfl, rfl⟩ dX0_drop_90 (sn_bI (fun r15 S16 => ?_)) sn_x0
      subst hQq
      exact sn_iret hO rfl dX0_drop_93
    · intro k13 hk13
      refine sn_sub [1, 0] rfl ?_
      refine sn_lp2_walk (Gd := fun (i17 : Int32) (S18 : sn_S) => sn_G LoX w rmX0_drop Qq sn_noE C 0 0 28 [(0, .ref (w.2.2.1 0)), (2, .int i17)] [] S18) ?_ _ _
      intro rc19 hrc19 i17 S18
      refine sn_iload_n hO 1 rfl dX0_drop_28 ?_
      refine sn_iconst hO kc_2 dX0_drop_29 ?_
      refine sn_iadd hO dX0_drop_30 ?_
      refine sn_iconst hO kc_2 dX0_drop_31 ?_
      refine sn_aload_n hO 0 rfl dX0_drop_32 ?_
      refine sn_getF hO fX0_16 atX_0 dX0_drop_33 ?_
      refine sn_getIN hO fX0_331 atX_2 dX0_drop_36 ?_
      refine sn_imul hO dX0_drop_39 ?_
      refine sn_icmp_ge hO 69 (by decide) dX0_drop_40 ?_ ?_
      · refine sn_sub [0] rfl ?_
        exact hk13 _
      · refine sn_aload_n hO 0 rfl dX0_drop_43 ?_
        refine sn_getF hO fX0_16 atX_0 dX0_drop_44 ?_
        refine sn_getFN hO fX0_334 atX_2 dX0_drop_47 ?_
        refine sn_iload_n hO 1 rfl dX0_drop_50 ?_
        refine sn_aload_n hO 0 rfl dX0_drop_51 ?_
        refine sn_getF hO fX0_16 atX_0 dX0_drop_52 ?_
        refine sn_getFN hO fX0_334 atX_2 dX0_drop_55 ?_
        refine sn_iload_n hO 1 rfl dX0_drop_58 ?_
        refine sn_iconst hO kc_2 dX0_drop_59 ?_
        refine sn_iadd hO dX0_drop_60 ?_
        refine sn_iald hO atX_8 rfl dX0_drop_61 ?_
        refine sn_iast hO atX_8 rfl dX0_drop_62 ?_
        refine sn_nmS (fun S20 => ?_)
        refine sn_iinc hO (lv' := [(2, .int (i17 + 1)), (0, .ref (w.2.2.1 0))]) 1 rfl ki_1 (by decide) rfl dX0_drop_63 ?_
        refine sn_goto hO 28 (by decide) dX0_drop_66 ?_
        refine sn_sub [1, 0] rfl ?_
        exact hrc19 _ _
  · refine sn_aload_n hO 0 rfl dX0_drop_17 ?_
    refine sn_bipush hO kb_m2 dX0_drop_18 ?_
    refine sn_callV hO (c2 := 0) (s2 := 0) (rm := rmX0_refuse) [.int (-2)] cvX0_122 (fun _ => sn_Rv_K atX_0) (fun h => ctX0_refuse h) ⟨Nat.le_of_ble_eq_true rfl, Nat.le_of_ble_eq_true rfl⟩ rfl rfl (Nat.le_of_ble_eq_true rfl) ⟨Nat.le_of_ble_eq_true rfl, Nat.le_of_ble_eq_true rfl, rfl, rfl⟩ dX0_drop_20 (sn_bI (fun r21 S22 => ?_)) sn_x0
    subst hQq
    exact sn_iret hO rfl dX0_drop_23
theorem ctX0_drop {w : sn_W} {p1 : Int32} {S : sn_S} {Q : Int32 → sn_S → Prop} (h : wpX0_drop w p1 S Q) : sn_Ct LoX w yX0_drop (ws_ yX0_drop cX0_drop 3 (some .int)) rmX0_drop [.ref (w.2.2.1 0), .int p1] S (sn_qI Q) sn_noE := sn_Ct_of (XX_O w) (by decide) (Nat.le_of_ble_eq_true rfl) RX0 rfl (fun C hO => wkX0_drop hO p1 S Q h)
def rmX8_ends : Room := { frames := 1, cells := 0, slots := 0, locals := 64 }
/-- SnailPost$Orders.ends()V -/
def wpX8_ends (w : sn_W) (S : sn_S) (Q : sn_S → Prop) : Prop :=
  sn_jn (fun (S10 : sn_S) => sn_lt (sn_pI S10 94 4 ((S10.1 94 4) + 1)) (fun S12 => ((¬ (S12.1 2 8) = 0 → (vp_in 0 6 ∧ sn_lt (sn_pI S12 94 5 ((S12.1 94 5) ||| (1 <<< ((S12.1 95 (0 : Int32).toNatClampNeg) &&& 31)))) (fun S13 => (vp_in ((S13.1 2 8) - 1) 6 ∧ sn_lt (sn_pI S13 94 6 ((S13.1 94 6) ||| (1 <<< ((S13.1 95 (((S13.1 2 8) - 1)).toNatClampNeg) &&& 31)))) (fun S14 => sn_lp2 (fun (rc17 : Int32 → sn_S → Prop) (i15 : Int32) (S16 : sn_S) => (((S16.1 2 8) ≤ i15 → Q S16) ∧ (¬ (S16.1 2 8) ≤ i15 → sn_lt (i15 + 1) (fun x18 => sn_jn (fun (S19 : sn_S) => rc17 (i15 + 1) S19) (fun (k20 : sn_S → Prop) => sn_lp2 (fun (rc23 : Int32 → sn_S → Prop) (i21 : Int32) (S22 : sn_S) => (((S22.1 2 8) ≤ i21 → k20 S22) ∧ (¬ (S22.1 2 8) ≤ i21 → (vp_in i15 6 ∧ (vp_in i21 6 ∧ (vp_in ((6 * (S22.1 95 (i15).toNatClampNeg)) + (S22.1 95 (i21).toNatClampNeg)) 36 ∧ (vp_in ((6 * (S22.1 95 (i15).toNatClampNeg)) + (S22.1 95 (i21).toNatClampNeg)) 36 ∧ sn_lt (sn_pI S22 97 (((6 * (S22.1 95 (i15).toNatClampNeg)) + (S22.1 95 (i21).toNatClampNeg))).toNatClampNeg ((S22.1 97 (((6 * (S22.1 95 (i15).toNatClampNeg)) + (S22.1 95 (i21).toNatClampNeg))).toNatClampNeg) + 1)) (fun S24 => rc23 (i21 + 1) S24)))))))) x18 S16))))) 0 S14))))) ∧ ((S12.1 2 8) = 0 → Q S12)))) (fun (k11 : sn_S → Prop) => ((¬ (S.1 94 4) = 0 → k11 S) ∧ ((S.1 94 4) = 0 → (sn_cp 0 0 6 6 6 ∧ sn_lt (sn_pA S 96 (va_cpy (S.1 95) (S.1 96) (0 : Int32).toNatClampNeg (0 : Int32).toNatClampNeg (6 : Int32).toNatClampNeg)) (fun S25 => k11 S25)))))
theorem wkX8_ends {w : sn_W} {C : sn_C} (hO : sn_Ok LoX w C RX8 cX8_ends 3 none [] "ends") (S : sn_S) (Q : sn_S → Prop) : wpX8_ends w S Q → sn_G LoX w rmX8_ends (sn_qV Q) sn_noE C 0 0 0 [(0, .ref (w.2.2.1 94))] [] S := by
  unfold wpX8_ends
  generalize hQq : (sn_qV Q) = Qq
  refine sn_aload_n hO 0 rfl dX8_ends_0 ?_
  refine sn_getI hO fX8_32 atX_94 dX8_ends_1 ?_
  refine sn_jn_walk (fun (k : sn_S → Prop) => ∀ (S10 : sn_S), k S10 → sn_G LoX w rmX8_ends Qq sn_noE C 0 0 22 [(0, .ref (w.2.2.1 94))] [] S10) ?_ ?_
  · intro S10
    refine sn_aload_n hO 0 rfl dX8_ends_22 ?_
    refine sn_dup hO rfl dX8_ends_23 ?_
    refine sn_getI hO fX8_32 atX_94 dX8_ends_24 ?_
    refine sn_iconst hO kc_1 dX8_ends_27 ?_
    refine sn_iadd hO dX8_ends_28 ?_
    refine sn_putI hO fX8_32 atX_94 rfl rfl dX8_ends_29 ?_
    refine sn_nmS (fun S12 => ?_)
    refine sn_aload_n hO 0 rfl dX8_ends_32 ?_
    refine sn_getF hO fX8_3 atX_94 dX8_ends_33 ?_
    refine sn_getFN hO fX8_45 atX_0 dX8_ends_36 ?_
    refine sn_getIN hO fX8_49 atX_2 dX8_ends_39 ?_
    refine sn_if_ne hO 46 (by decide) dX8_ends_42 ?_ ?_
    · refine sn_aload_n hO 0 rfl dX8_ends_46 ?_
      refine sn_dup hO rfl dX8_ends_47 ?_
      refine sn_getI hO fX8_35 atX_94 dX8_ends_48 ?_
      refine sn_iconst hO kc_1 dX8_ends_51 ?_
      refine sn_aload_n hO 0 rfl dX8_ends_52 ?_
      refine sn_getF hO fX8_15 atX_94 dX8_ends_53 ?_
      refine sn_iconst hO kc_0 dX8_ends_56 ?_
      refine sn_iald hO atX_95 rfl dX8_ends_57 ?_
      refine sn_ishl hO dX8_ends_58 ?_
      refine sn_ior hO dX8_ends_59 ?_
      refine sn_putI hO fX8_35 atX_94 rfl rfl dX8_ends_60 ?_
      refine sn_nmS (fun S13 => ?_)
      refine sn_aload_n hO 0 rfl dX8_ends_63 ?_
      refine sn_dup hO rfl dX8_ends_64 ?_
      refine sn_getI hO fX8_38 atX_94 dX8_ends_65 ?_
      refine sn_iconst hO kc_1 dX8_ends_68 ?_
      refine sn_aload_n hO 0 rfl dX8_ends_69 ?_
      refine sn_getF hO fX8_15 atX_94 dX8_ends_70 ?_
      refine sn_aload_n hO 0 rfl dX8_ends_73 ?_
      refine sn_getF hO fX8_3 atX_94 dX8_ends_74 ?_
      refine sn_getFN hO fX8_45 atX_0 dX8_ends_77 ?_
      refine sn_getIN hO fX8_49 atX_2 dX8_ends_80 ?_
      refine sn_iconst hO kc_1 dX8_ends_83 ?_
      refine sn_isub hO dX8_ends_84 ?_
      refine sn_iald hO atX_95 rfl dX8_ends_85 ?_
      refine sn_ishl hO dX8_ends_86 ?_
      refine sn_ior hO dX8_ends_87 ?_
      refine sn_putI hO fX8_38 atX_94 rfl rfl dX8_ends_88 ?_
      refine sn_nmS (fun S14 => ?_)
      refine sn_iconst hO kc_0 dX8_ends_91 ?_
      refine sn_istore_n hO (lv' := [(1, .int 0), (0, .ref (w.2.2.1 94))]) (by decide) rfl dX8_ends_92 ?_
      refine sn_sub [1, 0] rfl ?_
      refine sn_lp2_walk (Gd := fun (i15 : Int32) (S16 : sn_S) => sn_G LoX w rmX8_ends Qq sn_noE C 0 0 93 [(0, .ref (w.2.2.1 94)), (1, .int i15)] [] S16) ?_ _ _
      intro rc17 hrc17 i15 S16
      refine sn_iload_n hO 1 rfl dX8_ends_93 ?_
      refine sn_aload_n hO 0 rfl dX8_ends_94 ?_
      refine sn_getF hO fX8_3 atX_94 dX8_ends_95 ?_
      refine sn_getFN hO fX8_45 atX_0 dX8_ends_98 ?_
      refine sn_getIN hO fX8_49 atX_2 dX8_ends_101 ?_
      refine sn_icmp_ge hO 162 (by decide) dX8_ends_104 ?_ ?_
      · subst hQq
        exact sn_vret hO rfl dX8_ends_162
      · refine sn_iload_n hO 1 rfl dX8_ends_107 ?_
        refine sn_iconst hO kc_1 dX8_ends_108 ?_
        refine sn_iadd hO dX8_ends_109 ?_
        refine sn_nmI (fun x18 => ?_)
        refine sn_istore_n hO (lv' := [(2, .int x18), (0, .ref (w.2.2.1 94)), (1, .int i15)]) (by decide) rfl dX8_ends_110 ?_
        refine sn_jn_walk (fun (k : sn_S → Prop) => ∀ (S19 : sn_S), k S19 → sn_G LoX w rmX8_ends Qq sn_noE C 0 0 156 [(0, .ref (w.2.2.1 94)), (1, .int i15)] [] S19) ?_ ?_
        · intro S19
          refine sn_iinc hO (lv' := [(1, .int (i15 + 1)), (0, .ref (w.2.2.1 94))]) 1 rfl ki_1 (by decide) rfl dX8_ends_156 ?_
          refine sn_goto hO 93 (by decide) dX8_ends_159 ?_
          refine sn_sub [1, 0] rfl ?_
          exact hrc17 _ _
        · intro k20 hk20
          refine sn_sub [1, 2, 0] rfl ?_
          refine sn_lp2_walk (Gd := fun (i21 : Int32) (S22 : sn_S) => sn_G LoX w rmX8_ends Qq sn_noE C 0 0 111 [(0, .ref (w.2.2.1 94)), (1, .int i15), (2, .int i21)] [] S22) ?_ _ _
          intro rc23 hrc23 i21 S22
          refine sn_iload_n hO 2 rfl dX8_ends_111 ?_
          refine sn_aload_n hO 0 rfl dX8_ends_112 ?_
          refine sn_getF hO fX8_3 atX_94 dX8_ends_113 ?_
          refine sn_getFN hO fX8_45 atX_0 dX8_ends_116 ?_
          refine sn_getIN hO fX8_49 atX_2 dX8_ends_119 ?_
          refine sn_icmp_ge hO 156 (by decide) dX8_ends_122 ?_ ?_
          · refine sn_sub [0, 1] rfl ?_
            exact hk20 _
          · refine sn_aload_n hO 0 rfl dX8_ends_125 ?_
            refine sn_getF hO fX8_22 atX_94 dX8_ends_126 ?_
            refine sn_bipush hO kb_6 dX8_ends_129 ?_
            refine sn_aload_n hO 0 rfl dX8_ends_131 ?_
            refine sn_getF hO fX8_15 atX_94 dX8_ends_132 ?_
            refine sn_iload_n hO 1 rfl dX8_ends_135 ?_
            refine sn_iald hO atX_95 rfl dX8_ends_136 ?_
            refine sn_imul hO dX8_ends_137 ?_
            refine sn_aload_n hO 0 rfl dX8_ends_138 ?_
            refine sn_getF hO fX8_15 atX_94 dX8_ends_139 ?_
            refine sn_iload_n hO 2 rfl dX8_ends_142 ?_
            refine sn_iald hO atX_95 rfl dX8_ends_143 ?_
            refine sn_iadd hO dX8_ends_144 ?_
            refine sn_dup2 hO rfl rfl dX8_ends_145 ?_
            refine sn_iald hO atX_97 rfl dX8_ends_146 ?_
            refine sn_iconst hO kc_1 dX8_ends_147 ?_
            refine sn_iadd hO dX8_ends_148 ?_
            refine sn_iast hO atX_97 rfl dX8_ends_149 ?_
            refine sn_nmS (fun S24 => ?_)
            refine sn_iinc hO (lv' := [(2, .int (i21 + 1)), (0, .ref (w.2.2.1 94)), (1, .int i15)]) 2 rfl ki_1 (by decide) rfl dX8_ends_150 ?_
            refine sn_goto hO 111 (by decide) dX8_ends_153 ?_
            refine sn_sub [1, 2, 0] rfl ?_
            exact hrc23 _ _
    · subst hQq
      exact sn_vret hO rfl dX8_ends_45
  · intro k11 hk11
    refine sn_if_ne hO 22 (by decide) dX8_ends_4 ?_ ?_
    · exact hk11 _
    · refine sn_aload_n hO 0 rfl dX8_ends_7 ?_
      refine sn_getF hO fX8_15 atX_94 dX8_ends_8 ?_
      refine sn_iconst hO kc_0 dX8_ends_11 ?_
      refine sn_aload_n hO 0 rfl dX8_ends_12 ?_
      refine sn_getF hO fX8_19 atX_94 dX8_ends_13 ?_
      refine sn_iconst hO kc_0 dX8_ends_16 ?_
      refine sn_bipush hO kb_6 dX8_ends_17 ?_
      refine sn_copyI hO atX_95 atX_96 rfl q1381 q594 q593 q136 ⟨Nat.le_of_ble_eq_true rfl, by decide⟩ dX8_ends_19 ?_
      refine sn_nmS (fun S25 => ?_)
      exact hk11 _
theorem ctX8_ends {w : sn_W} {S : sn_S} {Q : sn_S → Prop} (h : wpX8_ends w S Q) : sn_Ct LoX w yX8_ends (ws_ yX8_ends cX8_ends 3 none) rmX8_ends [.ref (w.2.2.1 94)] S (sn_qV Q) sn_noE := sn_Ct_of (XX_O w) (by decide) (Nat.le_of_ble_eq_true rfl) RX8 rfl (fun C hO => wkX8_ends hO S Q h)
def rmX8_mayPass : Room := { frames := 1, cells := 0, slots := 0, locals := 21 }
/-- SnailPost$Orders.mayPass(II)Z -/
def wpX8_mayPass (w : sn_W) (p1 : Int32) (p2 : Int32) (S : sn_S) (Q : Int32 → Prop) : Prop :=
  sn_lp1 (fun (rc11 : Int32 → Prop) (i10 : Int32) => (((S.1 2 10) ≤ i10 → Q 1) ∧ (¬ (S.1 2 10) ≤ i10 → (vp_in (2 * i10) 24 ∧ sn_jn (κ := Prop) (rc11 (i10 + 1)) (fun (k12 : Prop) => ((¬ (S.1 8 ((2 * i10)).toNatClampNeg) = p1 → k12) ∧ ((S.1 8 ((2 * i10)).toNatClampNeg) = p1 → (vp_in ((2 * i10) + 1) 24 ∧ wpX0_isOf w p2 (S.1 8 (((2 * i10) + 1)).toNatClampNeg) (fun (r13 : Int32) => ((¬ r13 = 0 → k12) ∧ (r13 = 0 → Q 0))))))))))) 0
theorem wkX8_mayPass {w : sn_W} {C : sn_C} (hO : sn_Ok LoX w C RX8 cX8_mayPass 4 (some .boolean) [] "mayPass") (p1 : Int32) (p2 : Int32) (S : sn_S) (Q : Int32 → Prop) : wpX8_mayPass w p1 p2 S Q → sn_G LoX w rmX8_mayPass (sn_qI (fun r S1 => S1 = S ∧ Q r)) sn_noE C 0 0 0 [(0, .ref (w.2.2.1 94)), (1, .int p1), (2, .int p2)] [] S := by
  unfold wpX8_mayPass
  generalize hQq : (sn_qI (fun r S1 => S1 = S ∧ Q r)) = Qq
  refine sn_iconst hO kc_0 dX8_mayPass_0 ?_
  refine sn_istore_n hO (lv' := [(3, .int 0), (0, .ref (w.2.2.1 94)), (1, .int p1), (2, .int p2)]) (by decide) rfl dX8_mayPass_1 ?_
  refine sn_sub [1, 2, 3, 0] rfl ?_
  refine sn_lp1_walk (Gd := fun (i10 : Int32) => sn_G LoX w rmX8_mayPass Qq sn_noE C 0 0 2 [(0, .ref (w.2.2.1 94)), (1, .int p1), (2, .int p2), (3, .int i10)] [] S) ?_ _
  intro rc11 hrc11 i10
  refine sn_iload_n hO 3 rfl dX8_mayPass_2 ?_
  refine sn_aload_n hO 0 rfl dX8_mayPass_3 ?_
  refine sn_getF hO fX8_3 atX_94 dX8_mayPass_4 ?_
  refine sn_getFN hO fX8_45 atX_0 dX8_mayPass_7 ?_
  refine sn_getIN hO fX8_62 atX_2 dX8_mayPass_10 ?_
  refine sn_icmp_ge hO 65 (by decide) dX8_mayPass_13 ?_ ?_
  · refine sn_iconst hO kc_1 dX8_mayPass_65 ?_
    subst hQq
    exact fun h => sn_zret hO (ty := .boolean) rfl rfl dX8_mayPass_66 ⟨rfl, h⟩
  · refine sn_aload_n hO 0 rfl dX8_mayPass_16 ?_
    refine sn_getF hO fX8_3 atX_94 dX8_mayPass_17 ?_
    refine sn_getFN hO fX8_45 atX_0 dX8_mayPass_20 ?_
    refine sn_getFN hO fX8_65 atX_2 dX8_mayPass_23 ?_
    refine sn_iconst hO kc_2 dX8_mayPass_26 ?_
    refine sn_iload_n hO 3 rfl dX8_mayPass_27 ?_
    refine sn_imul hO dX8_mayPass_28 ?_
    refine sn_iald hO atX_8 rfl dX8_mayPass_29 ?_
    refine sn_iload_n hO 1 rfl dX8_mayPass_30 ?_
    refine sn_jn_walk (fun (k : Prop) => k → sn_G LoX w rmX8_mayPass Qq sn_noE C 0 0 59 [(0, .ref (w.2.2.1 94)), (1, .int p1), (2, .int p2), (3, .int i10)] [] S) ?_ ?_
    · refine sn_iinc hO (lv' := [(3, .int (i10 + 1)), (0, .ref (w.2.2.1 94)), (1, .int p1), (2, .int p2)]) 3 rfl ki_1 (by decide) rfl dX8_mayPass_59 ?_
      refine sn_goto hO 2 (by decide) dX8_mayPass_62 ?_
      refine sn_sub [1, 2, 3, 0] rfl ?_
      exact hrc11 _
    · intro k12 hk12
      refine sn_icmp_ne hO 59 (by decide) dX8_mayPass_31 ?_ ?_
      · exact hk12
      · refine sn_iload_n hO 2 rfl dX8_mayPass_34 ?_
        refine sn_aload_n hO 0 rfl dX8_mayPass_35 ?_
        refine sn_getF hO fX8_3 atX_94 dX8_mayPass_36 ?_
        refine sn_getFN hO fX8_45 atX_0 dX8_mayPass_39 ?_
        refine sn_getFN hO fX8_65 atX_2 dX8_mayPass_42 ?_
        refine sn_iconst hO kc_2 dX8_mayPass_45 ?_
        refine sn_iload_n hO 3 rfl dX8_mayPass_46 ?_
        refine sn_imul hO dX8_mayPass_47 ?_
        refine sn_iconst hO kc_1 dX8_mayPass_48 ?_
        refine sn_iadd hO dX8_mayPass_49 ?_
        refine sn_iald hO atX_8 rfl dX8_mayPass_50 ?_
        refine sn_callSN hO (c2 := 0) (s2 := 0) (rm := rmX0_isOf) [.int p2, .int (S.1 8 (((2 * i10) + 1)).toNatClampNeg)] csX8_55 (fun h => ctX0_isOf h) ⟨Nat.le_of_ble_eq_true rfl, Nat.le_of_ble_eq_true rfl⟩ rfl rfl (Nat.le_of_ble_eq_true rfl) ⟨Nat.le_of_ble_eq_true rfl, Nat.le_of_ble_eq_true rfl, rfl, rfl⟩ dX8_mayPass_51 (sn_bIp (fun r13 => ?_)) sn_x0
        refine sn_if_ne hO 59 (by decide) dX8_mayPass_54 ?_ ?_
        · exact hk12
        · refine sn_iconst hO kc_0 dX8_mayPass_57 ?_
          subst hQq
          exact fun h => sn_zret hO (ty := .boolean) rfl rfl dX8_mayPass_58 ⟨rfl, h⟩
theorem ctX8_mayPass {w : sn_W} {p1 : Int32} {p2 : Int32} {S : sn_S} {Q : Int32 → Prop} (h : wpX8_mayPass w p1 p2 S Q) : sn_Ct LoX w yX8_mayPass (ws_ yX8_mayPass cX8_mayPass 4 (some .boolean)) rmX8_mayPass [.ref (w.2.2.1 94), .int p1, .int p2] S (sn_qI (fun r S1 => S1 = S ∧ Q r)) sn_noE := sn_Ct_of (XX_O w) (by decide) (Nat.le_of_ble_eq_true rfl) RX8 rfl (fun C hO => wkX8_mayPass hO p1 p2 S Q h)
def rmX8_tries (d : Nat) : Room := { frames := 2 * d + 2, cells := 0, slots := 0, locals := 100 * d + 86 }
def okX8_tries (w : sn_W) (d : Nat) (self : Int32 → Int32 → sn_S → (sn_S → Prop) → Prop) : Prop := ∀ (p1 : Int32) (p2 : Int32) (S : sn_S) (Q : sn_S → Prop), self p1 p2 S Q → sn_Ct LoX w yX8_tries (ws_ yX8_tries cX8_tries 4 none) (rmX8_tries d) [.ref (w.2.2.1 94), .int p1, .int p2] S (sn_qV Q) sn_noE
theorem okX8_tries.use {w : sn_W} {d : Nat} {self : Int32 → Int32 → sn_S → (sn_S → Prop) → Prop} (hself : okX8_tries w d self) {p1 : Int32} {p2 : Int32} {S : sn_S} {Q : sn_S → Prop} (h : self p1 p2 S Q) : sn_Ct LoX w yX8_tries (ws_ yX8_tries cX8_tries 4 none) (rmX8_tries d) [.ref (w.2.2.1 94), .int p1, .int p2] S (sn_qV Q) sn_noE := hself _ _ _ Q h
/-- SnailPost$Orders.tries(II)V -/
def wpX8_triesF (w : sn_W) (self : Int32 → Int32 → sn_S → (sn_S → Prop) → Prop) (p1 : Int32) (p2 : Int32) (S : sn_S) (Q : sn_S → Prop) : Prop :=
  ((¬ p1 = (S.1 2 8) → sn_lp2 (fun (rc12 : Int32 → sn_S → Prop) (i10 : Int32) (S11 : sn_S) => (((S11.1 2 8) ≤ i10 → Q S11) ∧ (¬ (S11.1 2 8) ≤ i10 → wpX0_isOf w p2 i10 (fun (r13 : Int32) => sn_jn (fun (S14 : sn_S) => rc12 (i10 + 1) S14) (fun (k15 : sn_S → Prop) => ((¬ r13 = 0 → k15 S11) ∧ (r13 = 0 → wpX8_mayPass w i10 p2 S11 (fun (r16 : Int32) => ((¬ r16 = 0 → (vp_in p1 6 ∧ sn_lt (sn_pI S11 95 (p1).toNatClampNeg i10) (fun S17 => self (p1 + 1) (p2 ||| (1 <<< (i10 &&& 31))) S17 (fun (S18 : sn_S) => k15 S18)))) ∧ (r16 = 0 → k15 S11)))))))))) 0 S) ∧ (p1 = (S.1 2 8) → wpX8_ends w S (fun (S19 : sn_S) => Q S19)))
theorem wkX8_tries {w : sn_W} {C : sn_C} {d : Nat} {self : Int32 → Int32 → sn_S → (sn_S → Prop) → Prop} (hself : okX8_tries w d self) (hO : sn_Ok LoX w C RX8 cX8_tries 4 none [] "tries") (p1 : Int32) (p2 : Int32) (S : sn_S) (Q : sn_S → Prop) : wpX8_triesF w self p1 p2 S Q → sn_G LoX w (rmX8_tries (d + 1)) (sn_qV Q) sn_noE C 0 0 0 [(0, .ref (w.2.2.1 94)), (1, .int p1), (2, .int p2)] [] S := by
  unfold wpX8_triesF
  generalize hQq : (sn_qV Q) = Qq
  refine sn_iload_n hO 1 rfl dX8_tries_0 ?_
  refine sn_aload_n hO 0 rfl dX8_tries_1 ?_
  refine sn_getF hO fX8_3 atX_94 dX8_tries_2 ?_
  refine sn_getFN hO fX8_45 atX_0 dX8_tries_5 ?_
  refine sn_getIN hO fX8_49 atX_2 dX8_tries_8 ?_
  refine sn_icmp_ne hO 19 (by decide) dX8_tries_11 ?_ ?_
  · refine sn_iconst hO kc_0 dX8_tries_19 ?_
    refine sn_istore_n hO (lv' := [(3, .int 0), (0, .ref (w.2.2.1 94)), (1, .int p1), (2, .int p2)]) (by decide) rfl dX8_tries_20 ?_
    refine sn_sub [1, 2, 3, 0] rfl ?_
    refine sn_lp2_walk (Gd := fun (i10 : Int32) (S11 : sn_S) => sn_G LoX w (rmX8_tries (d + 1)) Qq sn_noE C 0 0 21 [(0, .ref (w.2.2.1 94)), (1, .int p1), (2, .int p2), (3, .int i10)] [] S11) ?_ _ _
    intro rc12 hrc12 i10 S11
    refine sn_iload_n hO 3 rfl dX8_tries_21 ?_
    refine sn_aload_n hO 0 rfl dX8_tries_22 ?_
    refine sn_getF hO fX8_3 atX_94 dX8_tries_23 ?_
    refine sn_getFN hO fX8_45 atX_0 dX8_tries_26 ?_
    refine sn_getIN hO fX8_49 atX_2 dX8_tries_29 ?_
    refine sn_icmp_ge hO 80 (by decide) dX8_tries_32 ?_ ?_
    · subst hQq
      exact sn_vret hO rfl dX8_tries_80
    · refine sn_iload_n hO 2 rfl dX8_tries_35 ?_
      refine sn_iload_n hO 3 rfl dX8_tries_36 ?_
      refine sn_callSN hO (c2 := 0) (s2 := 0) (rm := rmX0_isOf) [.int p2, .int i10] csX8_55 (fun h => ctX0_isOf h) ⟨by simp only [rmX0_isOf, rmX8_tries]; omega, by simp only [rmX0_isOf, rmX8_tries]; omega⟩ rfl rfl (Nat.le_of_ble_eq_true rfl) ⟨Nat.le_of_ble_eq_true rfl, Nat.le_of_ble_eq_true rfl, rfl, rfl⟩ dX8_tries_37 (sn_bIp (fun r13 => ?_)) sn_x0
      refine sn_jn_walk (fun (k : sn_S → Prop) => ∀ (S14 : sn_S), k S14 → sn_G LoX w (rmX8_tries (d + 1)) Qq sn_noE C 0 0 74 [(0, .ref (w.2.2.1 94)), (1, .int p1), (2, .int p2), (3, .int i10)] [] S14) ?_ ?_
      · intro S14
        refine sn_iinc hO (lv' := [(3, .int (i10 + 1)), (0, .ref (w.2.2.1 94)), (1, .int p1), (2, .int p2)]) 3 rfl ki_1 (by decide) rfl dX8_tries_74 ?_
        refine sn_goto hO 21 (by decide) dX8_tries_77 ?_
        refine sn_sub [1, 2, 3, 0] rfl ?_
        exact hrc12 _ _
      · intro k15 hk15
        refine sn_if_ne hO 74 (by decide) dX8_tries_40 ?_ ?_
        · exact hk15 _
        · refine sn_aload_n hO 0 rfl dX8_tries_43 ?_
          refine sn_iload_n hO 3 rfl dX8_tries_44 ?_
          refine sn_iload_n hO 2 rfl dX8_tries_45 ?_
          refine sn_callV hO (c2 := 0) (s2 := 0) (rm := rmX8_mayPass) [.int i10, .int p2] cvX8_59 (fun _ => sn_Rv_K atX_94) (fun h => ctX8_mayPass h) ⟨by simp only [rmX8_mayPass, rmX8_tries]; omega, by simp only [rmX8_mayPass, rmX8_tries]; omega⟩ rfl rfl (Nat.le_of_ble_eq_true rfl) ⟨Nat.le_of_ble_eq_true rfl, Nat.le_of_ble_eq_true rfl, rfl, rfl⟩ dX8_tries_46 (sn_bIp (fun r16 => ?_)) sn_x0
          refine sn_if_ne hO 55 (by decide) dX8_tries_49 ?_ ?_
          · refine sn_aload_n hO 0 rfl dX8_tries_55 ?_
            refine sn_getF hO fX8_15 atX_94 dX8_tries_56 ?_
            refine sn_iload_n hO 1 rfl dX8_tries_59 ?_
            refine sn_iload_n hO 3 rfl dX8_tries_60 ?_
            refine sn_iast hO atX_95 rfl dX8_tries_61 ?_
            refine sn_nmS (fun S17 => ?_)
            refine sn_aload_n hO 0 rfl dX8_tries_62 ?_
            refine sn_iload_n hO 1 rfl dX8_tries_63 ?_
            refine sn_iconst hO kc_1 dX8_tries_64 ?_
            refine sn_iadd hO dX8_tries_65 ?_
            refine sn_iload_n hO 2 rfl dX8_tries_66 ?_
            refine sn_iconst hO kc_1 dX8_tries_67 ?_
            refine sn_iload_n hO 3 rfl dX8_tries_68 ?_
            refine sn_ishl hO dX8_tries_69 ?_
            refine sn_ior hO dX8_tries_70 ?_
            refine sn_callV hO (c2 := 0) (s2 := 0) (rm := (rmX8_tries d)) [.int (p1 + 1), .int (p2 ||| (1 <<< (i10 &&& 31)))] cvX8_41 (fun _ => sn_Rv_K atX_94) (fun h => okX8_tries.use hself h) ⟨by simp only [rmX8_tries]; omega, by simp only [rmX8_tries]; omega⟩ rfl rfl (Nat.le_of_ble_eq_true rfl) ⟨Nat.le_of_ble_eq_true rfl, Nat.le_of_ble_eq_true rfl, rfl, rfl⟩ dX8_tries_71 (sn_bV (fun S18 => ?_)) sn_x0
            exact hk15 _
          · refine sn_goto hO 74 (by decide) dX8_tries_52 ?_
            exact hk15 _
  · refine sn_aload_n hO 0 rfl dX8_tries_14 ?_
    refine sn_callV hO (c2 := 0) (s2 := 0) (rm := rmX8_ends) [] cvX8_52 (fun _ => sn_Rv_K atX_94) (fun h => ctX8_ends h) ⟨by simp only [rmX8_ends, rmX8_tries]; omega, by simp only [rmX8_ends, rmX8_tries]; omega⟩ rfl rfl (Nat.le_of_ble_eq_true rfl) ⟨Nat.le_of_ble_eq_true rfl, Nat.le_of_ble_eq_true rfl, rfl, rfl⟩ dX8_tries_15 (sn_bV (fun S19 => ?_)) sn_x0
    subst hQq
    exact sn_vret hO rfl dX8_tries_18
def wpX8_tries (w : sn_W) : Nat → Int32 → Int32 → sn_S → (sn_S → Prop) → Prop
  | 0 => fun _ _ _ _ => False
  | d + 1 => wpX8_triesF w (wpX8_tries w d)
theorem okX8_tries_all {w : sn_W} : ∀ d : Nat, okX8_tries w d (wpX8_tries w d)
  | 0 => fun _ _ _ _ => fun h => h.elim
  | d + 1 => fun p1 p2 S Q h => sn_Ct_of (XX_O w) (by decide) (Nat.le_of_ble_eq_true rfl) RX8 rfl (fun C hO => wkX8_tries (okX8_tries_all d) hO p1 p2 S Q h)
theorem ctX8_tries {w : sn_W} (d : Nat) {p1 : Int32} {p2 : Int32} {S : sn_S} {Q : sn_S → Prop} (h : wpX8_tries w d p1 p2 S Q) : sn_Ct LoX w yX8_tries (ws_ yX8_tries cX8_tries 4 none) (rmX8_tries d) [.ref (w.2.2.1 94), .int p1, .int p2] S (sn_qV Q) sn_noE := okX8_tries_all d _ _ _ Q h
def rmX8_looks : Room := { frames := 19, cells := 0, slots := 0, locals := 909 }
/-- SnailPost$Orders.looks()V -/
def wpX8_looks (w : sn_W) (S : sn_S) (Q : sn_S → Prop) : Prop :=
  ((¬ (S.1 94 3) = (S.1 0 8) → sn_lt (sn_pI S 94 3 (S.1 0 8)) (fun S10 => sn_lt (sn_pI S10 94 4 0) (fun S11 => sn_lt (sn_pI S11 94 5 0) (fun S12 => sn_lt (sn_pI S12 94 6 0) (fun S13 => sn_jn (fun (S14 : sn_S) => wpX8_tries w 8 0 0 S14 (fun (S16 : sn_S) => Q S16)) (fun (k15 : sn_S → Prop) => sn_lp2 (fun (rc19 : Int32 → sn_S → Prop) (i17 : Int32) (S18 : sn_S) => ((36 ≤ i17 → k15 S18) ∧ (¬ 36 ≤ i17 → (vp_in i17 36 ∧ sn_lt (sn_pI S18 97 (i17).toNatClampNeg 0) (fun S20 => rc19 (i17 + 1) S20))))) 0 S13)))))) ∧ ((S.1 94 3) = (S.1 0 8) → Q S))
theorem wkX8_looks {w : sn_W} {C : sn_C} (hO : sn_Ok LoX w C RX8 cX8_looks 2 none [] "looks") (S : sn_S) (Q : sn_S → Prop) : wpX8_looks w S Q → sn_G LoX w rmX8_looks (sn_qV Q) sn_noE C 0 0 0 [(0, .ref (w.2.2.1 94))] [] S := by
  unfold wpX8_looks
  generalize hQq : (sn_qV Q) = Qq
  refine sn_aload_n hO 0 rfl dX8_looks_0 ?_
  refine sn_getI hO fX8_25 atX_94 dX8_looks_1 ?_
  refine sn_aload_n hO 0 rfl dX8_looks_4 ?_
  refine sn_getF hO fX8_3 atX_94 dX8_looks_5 ?_
  refine sn_getIN hO fX8_29 atX_0 dX8_looks_8 ?_
  refine sn_icmp_ne hO 15 (by decide) dX8_looks_11 ?_ ?_
  · refine sn_aload_n hO 0 rfl dX8_looks_15 ?_
    refine sn_aload_n hO 0 rfl dX8_looks_16 ?_
    refine sn_getF hO fX8_3 atX_94 dX8_looks_17 ?_
    refine sn_getIN hO fX8_29 atX_0 dX8_looks_20 ?_
    refine sn_putI hO fX8_25 atX_94 rfl rfl dX8_looks_23 ?_
    refine sn_nmS (fun S10 => ?_)
    refine sn_aload_n hO 0 rfl dX8_looks_26 ?_
    refine sn_iconst hO kc_0 dX8_looks_27 ?_
    refine sn_putI hO fX8_32 atX_94 rfl rfl dX8_looks_28 ?_
    refine sn_nmS (fun S11 => ?_)
    refine sn_aload_n hO 0 rfl dX8_looks_31 ?_
    refine sn_iconst hO kc_0 dX8_looks_32 ?_
    refine sn_putI hO fX8_35 atX_94 rfl rfl dX8_looks_33 ?_
    refine sn_nmS (fun S12 => ?_)
    refine sn_aload_n hO 0 rfl dX8_looks_36 ?_
    refine sn_iconst hO kc_0 dX8_looks_37 ?_
    refine sn_putI hO fX8_38 atX_94 rfl rfl dX8_looks_38 ?_
    refine sn_nmS (fun S13 => ?_)
    refine sn_iconst hO kc_0 dX8_looks_41 ?_
    refine sn_istore_n hO (lv' := [(1, .int 0), (0, .ref (w.2.2.1 94))]) (by decide) rfl dX8_looks_42 ?_
    refine sn_jn_walk (fun (k : sn_S → Prop) => ∀ (S14 : sn_S), k S14 → sn_G LoX w rmX8_looks Qq sn_noE C 0 0 62 [(0, .ref (w.2.2.1 94))] [] S14) ?_ ?_
    · intro S14
      refine sn_aload_n hO 0 rfl dX8_looks_62 ?_
      refine sn_iconst hO kc_0 dX8_looks_63 ?_
      refine sn_iconst hO kc_0 dX8_looks_64 ?_
      refine sn_callV hO (c2 := 0) (s2 := 0) (rm := (rmX8_tries 8)) [.int 0, .int 0] cvX8_41 (fun _ => sn_Rv_K atX_94) (fun h => ctX8_tries 8 h) ⟨Nat.le_of_ble_eq_true rfl, Nat.le_of_ble_eq_true rfl⟩ rfl rfl (Nat.le_of_ble_eq_true rfl) ⟨Nat.le_of_ble_eq_true rfl, Nat.le_of_ble_eq_true rfl, rfl, rfl⟩ dX8_looks_65 (sn_bV (fun S16 => ?_)) sn_x0
      subst hQq
      exact sn_vret hO rfl dX8_looks_68
    · intro k15 hk15
      refine sn_sub [1, 0] rfl ?_
      refine sn_lp2_walk (Gd := fun (i17 : Int32) (S18 : sn_S) => sn_G LoX w rmX8_looks Qq sn_noE C 0 0 43 [(0, .ref (w.2.2.1 94)), (1, .int i17)] [] S18) ?_ _ _
      intro rc19 hrc19 i17 S18
      refine sn_iload_n hO 1 rfl dX8_looks_43 ?_
      refine sn_bipush hO kb_36 dX8_looks_44 ?_
      refine sn_icmp_ge hO 62 (by decide) dX8_looks_46 ?_ ?_
      · refine sn_sub [0] rfl ?_
        exact hk15 _
      · refine sn_aload_n hO 0 rfl dX8_looks_49 ?_
        refine sn_getF hO fX8_22 atX_94 dX8_looks_50 ?_
        refine sn_iload_n hO 1 rfl dX8_looks_53 ?_
        refine sn_iconst hO kc_0 dX8_looks_54 ?_
        refine sn_iast hO atX_97 rfl dX8_looks_55 ?_
        refine sn_nmS (fun S20 => ?_)
        refine sn_iinc hO (lv' := [(1, .int (i17 + 1)), (0, .ref (w.2.2.1 94))]) 1 rfl ki_1 (by decide) rfl dX8_looks_56 ?_
        refine sn_goto hO 43 (by decide) dX8_looks_59 ?_
        refine sn_sub [1, 0] rfl ?_
        exact hrc19 _ _
  · subst hQq
    exact sn_vret hO rfl dX8_looks_14
theorem ctX8_looks {w : sn_W} {S : sn_S} {Q : sn_S → Prop} (h : wpX8_looks w S Q) : sn_Ct LoX w yX8_looks (ws_ yX8_looks cX8_looks 2 none) rmX8_looks [.ref (w.2.2.1 94)] S (sn_qV Q) sn_noE := sn_Ct_of (XX_O w) (by decide) (Nat.le_of_ble_eq_true rfl) RX8 rfl (fun C hO => wkX8_looks hO S Q h)
def rmX0_orders : Room := { frames := 20, cells := 0, slots := 0, locals := 930 }
/-- SnailPost.orders(I)I -/
def wpX0_orders (w : sn_W) (p1 : Int32) (S : sn_S) (Q : Int32 → sn_S → Prop) : Prop :=
  wpX8_looks w S (fun (S10 : sn_S) => ((¬ p1 = (-1) → (((S10.1 94 4) ≤ 0 → Q (-1) S10) ∧ (¬ (S10.1 94 4) ≤ 0 → wpX0_isSnail w p1 S10 (fun (r11 : Int32) => ((r11 = 0 → Q (-1) S10) ∧ (¬ r11 = 0 → (vp_in p1 6 ∧ Q (S10.1 96 (p1).toNatClampNeg) S10))))))) ∧ (p1 = (-1) → Q (S10.1 94 4) S10)))
theorem wkX0_orders {w : sn_W} {C : sn_C} (hO : sn_Ok LoX w C RX0 cX0_orders 2 (some .int) [] "orders") (p1 : Int32) (S : sn_S) (Q : Int32 → sn_S → Prop) : wpX0_orders w p1 S Q → sn_G LoX w rmX0_orders (sn_qI Q) sn_noE C 0 0 0 [(0, .ref (w.2.2.1 0)), (1, .int p1)] [] S := by
  unfold wpX0_orders
  generalize hQq : (sn_qI Q) = Qq
  refine sn_aload_n hO 0 rfl dX0_orders_0 ?_
  refine sn_getF hO fX0_87 atX_0 dX0_orders_1 ?_
  refine sn_callV hO (c2 := 0) (s2 := 0) (rm := rmX8_looks) [] cvX0_337 (fun _ => sn_Rv_K atX_94) (fun h => ctX8_looks h) ⟨Nat.le_of_ble_eq_true rfl, Nat.le_of_ble_eq_true rfl⟩ rfl rfl (Nat.le_of_ble_eq_true rfl) ⟨Nat.le_of_ble_eq_true rfl, Nat.le_of_ble_eq_true rfl, rfl, rfl⟩ dX0_orders_4 (sn_bV (fun S10 => ?_)) sn_x0
  refine sn_iload_n hO 1 rfl dX0_orders_7 ?_
  refine sn_iconst hO kc_m1 dX0_orders_8 ?_
  refine sn_icmp_ne hO 22 (by decide) dX0_orders_9 ?_ ?_
  · refine sn_aload_n hO 0 rfl dX0_orders_22 ?_
    refine sn_getF hO fX0_87 atX_0 dX0_orders_23 ?_
    refine sn_getIN hO fX0_338 atX_94 dX0_orders_26 ?_
    refine sn_if_le hO 52 (by decide) dX0_orders_29 ?_ ?_
    · refine sn_iconst hO kc_m1 dX0_orders_52 ?_
      subst hQq
      exact sn_iret hO rfl dX0_orders_53
    · refine sn_aload_n hO 0 rfl dX0_orders_32 ?_
      refine sn_iload_n hO 1 rfl dX0_orders_33 ?_
      refine sn_callV hO (c2 := 0) (s2 := 0) (rm := rmX0_isSnail) [.int p1] cvX0_158 (fun _ => sn_Rv_K atX_0) (fun h => ctX0_isSnail h) ⟨Nat.le_of_ble_eq_true rfl, Nat.le_of_ble_eq_true rfl⟩ rfl rfl (Nat.le_of_ble_eq_true rfl) ⟨Nat.le_of_ble_eq_true rfl, Nat.le_of_ble_eq_true rfl, rfl, rfl⟩ dX0_orders_34 (sn_bIp (fun r11 => ?_)) sn_x0
      refine sn_if_eq hO 52 (by decide) dX0_orders_37 ?_ ?_
      · refine sn_iconst hO kc_m1 dX0_orders_52 ?_
        subst hQq
        exact sn_iret hO rfl dX0_orders_53
      · refine sn_aload_n hO 0 rfl dX0_orders_40 ?_
        refine sn_getF hO fX0_87 atX_0 dX0_orders_41 ?_
        refine sn_getFN hO fX0_339 atX_94 dX0_orders_44 ?_
        refine sn_iload_n hO 1 rfl dX0_orders_47 ?_
        refine sn_iald hO atX_96 rfl dX0_orders_48 ?_
        refine sn_goto hO 53 (by decide) dX0_orders_49 ?_
        subst hQq
        exact sn_iret hO rfl dX0_orders_53
  · refine sn_aload_n hO 0 rfl dX0_orders_12 ?_
    refine sn_getF hO fX0_87 atX_0 dX0_orders_13 ?_
    refine sn_getIN hO fX0_338 atX_94 dX0_orders_16 ?_
    refine sn_goto hO 53 (by decide) dX0_orders_19 ?_
    subst hQq
    exact sn_iret hO rfl dX0_orders_53
theorem ctX0_orders {w : sn_W} {p1 : Int32} {S : sn_S} {Q : Int32 → sn_S → Prop} (h : wpX0_orders w p1 S Q) : sn_Ct LoX w yX0_orders (ws_ yX0_orders cX0_orders 2 (some .int)) rmX0_orders [.ref (w.2.2.1 0), .int p1] S (sn_qI Q) sn_noE := sn_Ct_of (XX_O w) (by decide) (Nat.le_of_ble_eq_true rfl) RX0 rfl (fun C hO => wkX0_orders hO p1 S Q h)
def rmJ12_numberOfTrailingZeros : Room := { frames := 0, cells := 0, slots := 0, locals := 0 }
/-- java/lang/Integer.numberOfTrailingZeros(I)I -/
def wpJ12_numberOfTrailingZeros (w : sn_W) (p1 : Int32) (Q : Int32 → Prop) : Prop :=
  sn_lt ((p1 ^^^ (-1)) &&& (p1 - 1)) (fun x10 => ((0 < x10 → sn_jn (fun (v11 : Int32) (v12 : Int32) => sn_jn (fun (v14 : Int32) (v15 : Int32) => sn_jn (fun (v17 : Int32) (v18 : Int32) => ((v17 ≤ 4 → Q (v18 + (UInt32.toInt32 (Int32.toUInt32 v17 >>> (Int32.toUInt32 1 &&& Int32.toUInt32 31))))) ∧ (¬ v17 ≤ 4 → sn_lt (UInt32.toInt32 (Int32.toUInt32 v17 >>> (Int32.toUInt32 2 &&& Int32.toUInt32 31))) (fun x20 => Q ((v18 + 2) + (UInt32.toInt32 (Int32.toUInt32 x20 >>> (Int32.toUInt32 1 &&& Int32.toUInt32 31)))))))) (fun (k19 : Int32 → Int32 → Prop) => ((v14 ≤ 16 → k19 v14 v15) ∧ (¬ v14 ≤ 16 → sn_lt (UInt32.toInt32 (Int32.toUInt32 v14 >>> (Int32.toUInt32 4 &&& Int32.toUInt32 31))) (fun x21 => k19 x21 (v15 + 4)))))) (fun (k16 : Int32 → Int32 → Prop) => ((v11 ≤ 256 → k16 v11 v12) ∧ (¬ v11 ≤ 256 → sn_lt (UInt32.toInt32 (Int32.toUInt32 v11 >>> (Int32.toUInt32 8 &&& Int32.toUInt32 31))) (fun x22 => k16 x22 (v12 + 8)))))) (fun (k13 : Int32 → Int32 → Prop) => ((x10 ≤ 65536 → k13 x10 1) ∧ (¬ x10 ≤ 65536 → sn_lt (UInt32.toInt32 (Int32.toUInt32 x10 >>> (Int32.toUInt32 16 &&& Int32.toUInt32 31))) (fun x23 => k13 x23 (1 + 16)))))) ∧ (¬ 0 < x10 → Q (x10 &&& 32))))
theorem wkJ12_numberOfTrailingZeros {w : sn_W} {C : sn_C} (hO : sn_Ok LoX w C RJ12 cJ12_numberOfTrailingZeros 2 (some .int) [] "numberOfTrailingZeros") (p1 : Int32) (S : sn_S) (Q : Int32 → Prop) : wpJ12_numberOfTrailingZeros w p1 Q → sn_G LoX w rmJ12_numberOfTrailingZeros (sn_qI (fun r S1 => S1 = S ∧ Q r)) sn_noE C 0 0 0 [(0, .int p1)] [] S := by
  unfold wpJ12_numberOfTrailingZeros
  generalize hQq : (sn_qI (fun r S1 => S1 = S ∧ Q r)) = Qq
  refine sn_iload_n hO 0 rfl dJ12_numberOfTrailingZeros_0 ?_
  refine sn_iconst hO kc_m1 dJ12_numberOfTrailingZeros_1 ?_
  refine sn_ixor hO dJ12_numberOfTrailingZeros_2 ?_
  refine sn_iload_n hO 0 rfl dJ12_numberOfTrailingZeros_3 ?_
  refine sn_iconst hO kc_1 dJ12_numberOfTrailingZeros_4 ?_
  refine sn_isub hO dJ12_numberOfTrailingZeros_5 ?_
  refine sn_iand hO dJ12_numberOfTrailingZeros_6 ?_
  refine sn_nmI (fun x10 => ?_)
  refine sn_istore_n hO (lv' := [(0, .int x10)]) (by decide) rfl dJ12_numberOfTrailingZeros_7 ?_
  refine sn_iload_n hO 0 rfl dJ12_numberOfTrailingZeros_8 ?_
  refine sn_if_gt hO 17 (by decide) dJ12_numberOfTrailingZeros_9 ?_ ?_
  · refine sn_iconst hO kc_1 dJ12_numberOfTrailingZeros_17 ?_
    refine sn_istore_n hO (lv' := [(1, .int 1), (0, .int x10)]) (by decide) rfl dJ12_numberOfTrailingZeros_18 ?_
    refine sn_iload_n hO 1 rfl dJ12_numberOfTrailingZeros_19 ?_
    refine sn_ldc_w hO q1307 dJ12_numberOfTrailingZeros_20 ?_
    refine sn_jn_walk (fun (k : Int32 → Int32 → Prop) => ∀ (v11 : Int32) (v12 : Int32), k v11 v12 → sn_G LoX w rmJ12_numberOfTrailingZeros Qq sn_noE C 0 0 34 [(0, .int v11), (1, .int v12)] [] S) ?_ ?_
    · intro v11 v12
      refine sn_iload_n hO 0 rfl dJ12_numberOfTrailingZeros_34 ?_
      refine sn_sipush hO ks_256 dJ12_numberOfTrailingZeros_35 ?_
      refine sn_jn_walk (fun (k : Int32 → Int32 → Prop) => ∀ (v14 : Int32) (v15 : Int32), k v14 v15 → sn_G LoX w rmJ12_numberOfTrailingZeros Qq sn_noE C 0 0 49 [(0, .int v14), (1, .int v15)] [] S) ?_ ?_
      · intro v14 v15
        refine sn_iload_n hO 0 rfl dJ12_numberOfTrailingZeros_49 ?_
        refine sn_bipush hO kb_16 dJ12_numberOfTrailingZeros_50 ?_
        refine sn_jn_walk (fun (k : Int32 → Int32 → Prop) => ∀ (v17 : Int32) (v18 : Int32), k v17 v18 → sn_G LoX w rmJ12_numberOfTrailingZeros Qq sn_noE C 0 0 62 [(0, .int v17), (1, .int v18)] [] S) ?_ ?_
        · intro v17 v18
          refine sn_iload_n hO 0 rfl dJ12_numberOfTrailingZeros_62 ?_
          refine sn_iconst hO kc_4 dJ12_numberOfTrailingZeros_63 ?_
          refine sn_icmp_le hO 74 (by decide) dJ12_numberOfTrailingZeros_64 ?_ ?_
          · refine sn_iload_n hO 1 rfl dJ12_numberOfTrailingZeros_74 ?_
            refine sn_iload_n hO 0 rfl dJ12_numberOfTrailingZeros_75 ?_
            refine sn_iconst hO kc_1 dJ12_numberOfTrailingZeros_76 ?_
            refine sn_iushr hO dJ12_numberOfTrailingZeros_77 ?_
            refine sn_iadd hO dJ12_numberOfTrailingZeros_78 ?_
            subst hQq
            exact fun h => sn_iret hO rfl dJ12_numberOfTrailingZeros_79 ⟨rfl, h⟩
          · refine sn_iinc hO (lv' := [(1, .int (v18 + 2)), (0, .int v17)]) 1 rfl ki_2 (by decide) rfl dJ12_numberOfTrailingZeros_67 ?_
            refine sn_iload_n hO 1 rfl dJ12_numberOfTrailingZeros_70 ?_
            refine sn_iconst hO kc_2 dJ12_numberOfTrailingZeros_71 ?_
            refine sn_iushr hO dJ12_numberOfTrailingZeros_72 ?_
            refine sn_nmI (fun x20 => ?_)
            refine sn_istore_n hO (lv' := [(0, .int x20), (1, .int (v18 + 2))]) (by decide) rfl dJ12_numberOfTrailingZeros_73 ?_
            refine sn_iload_n hO 1 rfl dJ12_numberOfTrailingZeros_74 ?_
            refine sn_iload_n hO 0 rfl dJ12_numberOfTrailingZeros_75 ?_
            refine sn_iconst hO kc_1 dJ12_numberOfTrailingZeros_76 ?_
            refine sn_iushr hO dJ12_numberOfTrailingZeros_77 ?_
            refine sn_iadd hO dJ12_numberOfTrailingZeros_78 ?_
            subst hQq
            exact fun h => sn_iret hO rfl dJ12_numberOfTrailingZeros_79 ⟨rfl, h⟩
        · intro k19 hk19
          refine sn_icmp_le hO 62 (by decide) dJ12_numberOfTrailingZeros_52 ?_ ?_
          · exact hk19 _ _
          · refine sn_iinc hO (lv' := [(1, .int (v15 + 4)), (0, .int v14)]) 1 rfl ki_4 (by decide) rfl dJ12_numberOfTrailingZeros_55 ?_
            refine sn_iload_n hO 1 rfl dJ12_numberOfTrailingZeros_58 ?_
            refine sn_iconst hO kc_4 dJ12_numberOfTrailingZeros_59 ?_
            refine sn_iushr hO dJ12_numberOfTrailingZeros_60 ?_
            refine sn_nmI (fun x21 => ?_)
            refine sn_istore_n hO (lv' := [(0, .int x21), (1, .int (v15 + 4))]) (by decide) rfl dJ12_numberOfTrailingZeros_61 ?_
            exact hk19 _ _
      · intro k16 hk16
        refine sn_icmp_le hO 49 (by decide) dJ12_numberOfTrailingZeros_38 ?_ ?_
        · exact hk16 _ _
        · refine sn_iinc hO (lv' := [(1, .int (v12 + 8)), (0, .int v11)]) 1 rfl ki_8 (by decide) rfl dJ12_numberOfTrailingZeros_41 ?_
          refine sn_iload_n hO 1 rfl dJ12_numberOfTrailingZeros_44 ?_
          refine sn_bipush hO kb_8 dJ12_numberOfTrailingZeros_45 ?_
          refine sn_iushr hO dJ12_numberOfTrailingZeros_47 ?_
          refine sn_nmI (fun x22 => ?_)
          refine sn_istore_n hO (lv' := [(0, .int x22), (1, .int (v12 + 8))]) (by decide) rfl dJ12_numberOfTrailingZeros_48 ?_
          exact hk16 _ _
    · intro k13 hk13
      refine sn_icmp_le hO 34 (by decide) dJ12_numberOfTrailingZeros_23 ?_ ?_
      · refine sn_sub [1, 0] rfl ?_
        exact hk13 _ _
      · refine sn_iinc hO (lv' := [(1, .int (1 + 16)), (0, .int x10)]) 0 rfl ki_16 (by decide) rfl dJ12_numberOfTrailingZeros_26 ?_
        refine sn_iload_n hO 1 rfl dJ12_numberOfTrailingZeros_29 ?_
        refine sn_bipush hO kb_16 dJ12_numberOfTrailingZeros_30 ?_
        refine sn_iushr hO dJ12_numberOfTrailingZeros_32 ?_
        refine sn_nmI (fun x23 => ?_)
        refine sn_istore_n hO (lv' := [(0, .int x23), (1, .int (1 + 16))]) (by decide) rfl dJ12_numberOfTrailingZeros_33 ?_
        exact hk13 _ _
  · refine sn_iload_n hO 0 rfl dJ12_numberOfTrailingZeros_12 ?_
    refine sn_bipush hO kb_32 dJ12_numberOfTrailingZeros_13 ?_
    refine sn_iand hO dJ12_numberOfTrailingZeros_15 ?_
    subst hQq
    exact fun h => sn_iret hO rfl dJ12_numberOfTrailingZeros_16 ⟨rfl, h⟩
theorem ctJ12_numberOfTrailingZeros {w : sn_W} {p1 : Int32} {S : sn_S} {Q : Int32 → Prop} (h : wpJ12_numberOfTrailingZeros w p1 Q) : sn_Ct LoX w yJ12_numberOfTrailingZeros (ws_ yJ12_numberOfTrailingZeros cJ12_numberOfTrailingZeros 2 (some .int)) rmJ12_numberOfTrailingZeros [.int p1] S (sn_qI (fun r S1 => S1 = S ∧ Q r)) sn_noE := sn_Ct_of (XX_O w) (by decide) (Nat.le_of_ble_eq_true rfl) RJ12 rfl (fun C hO => wkJ12_numberOfTrailingZeros hO p1 S Q h)
def rmX0_sure : Room := { frames := 20, cells := 0, slots := 0, locals := 930 }
/-- SnailPost.sure(I)I -/
def wpX0_sure (w : sn_W) (p1 : Int32) (S : sn_S) (Q : Int32 → sn_S → Prop) : Prop :=
  wpX0_in w p1 0 1 (fun (r10 : Int32) => ((¬ r10 = 0 → wpX8_looks w S (fun (S11 : sn_S) => sn_jn (fun (v12 : Int32) => wpX0_ones w v12 (fun (r14 : Int32) => ((¬ r14 = 1 → Q (-1) S11) ∧ (r14 = 1 → wpJ12_numberOfTrailingZeros w v12 (fun (r15 : Int32) => Q r15 S11))))) (fun (k13 : Int32 → Prop) => ((¬ p1 = 0 → k13 (S11.1 94 6)) ∧ (p1 = 0 → k13 (S11.1 94 5)))))) ∧ (r10 = 0 → Q (-1) S)))
theorem wkX0_sure {w : sn_W} {C : sn_C} (hO : sn_Ok LoX w C RX0 cX0_sure 3 (some .int) [] "sure") (p1 : Int32) (S : sn_S) (Q : Int32 → sn_S → Prop) : wpX0_sure w p1 S Q → sn_G LoX w rmX0_sure (sn_qI Q) sn_noE C 0 0 0 [(0, .ref (w.2.2.1 0)), (1, .int p1)] [] S := by
  unfold wpX0_sure
  generalize hQq : (sn_qI Q) = Qq
  refine sn_iload_n hO 1 rfl dX0_sure_0 ?_
  refine sn_iconst hO kc_0 dX0_sure_1 ?_
  refine sn_iconst hO kc_1 dX0_sure_2 ?_
  refine sn_callS hO (c2 := 0) (s2 := 0) (rm := rmX0_in) [.int p1, .int 0, .int 1] csX0_112 (fun h => ctX0_in h) ⟨Nat.le_of_ble_eq_true rfl, Nat.le_of_ble_eq_true rfl⟩ rfl rfl (Nat.le_of_ble_eq_true rfl) ⟨Nat.le_of_ble_eq_true rfl, Nat.le_of_ble_eq_true rfl, rfl, rfl⟩ dX0_sure_3 (sn_bIp (fun r10 => ?_)) sn_x0
  refine sn_if_ne hO 11 (by decide) dX0_sure_6 ?_ ?_
  · refine sn_aload_n hO 0 rfl dX0_sure_11 ?_
    refine sn_getF hO fX0_87 atX_0 dX0_sure_12 ?_
    refine sn_callV hO (c2 := 0) (s2 := 0) (rm := rmX8_looks) [] cvX0_337 (fun _ => sn_Rv_K atX_94) (fun h => ctX8_looks h) ⟨Nat.le_of_ble_eq_true rfl, Nat.le_of_ble_eq_true rfl⟩ rfl rfl (Nat.le_of_ble_eq_true rfl) ⟨Nat.le_of_ble_eq_true rfl, Nat.le_of_ble_eq_true rfl, rfl, rfl⟩ dX0_sure_15 (sn_bV (fun S11 => ?_)) sn_x0
    refine sn_iload_n hO 1 rfl dX0_sure_18 ?_
    refine sn_jn_walk (fun (k : Int32 → Prop) => ∀ (v12 : Int32), k v12 → sn_G LoX w rmX0_sure Qq sn_noE C 0 0 39 [] [.int v12] S11) ?_ ?_
    · intro v12
      refine sn_istore_n hO (lv' := [(2, .int v12)]) (by decide) rfl dX0_sure_39 ?_
      refine sn_iload_n hO 0 rfl dX0_sure_40 ?_
      refine sn_callS hO (c2 := 0) (s2 := 0) (rm := rmX0_ones) [.int v12] csX0_313 (fun h => ctX0_ones h) ⟨Nat.le_of_ble_eq_true rfl, Nat.le_of_ble_eq_true rfl⟩ rfl rfl (Nat.le_of_ble_eq_true rfl) ⟨Nat.le_of_ble_eq_true rfl, Nat.le_of_ble_eq_true rfl, rfl, rfl⟩ dX0_sure_41 (sn_bIp (fun r14 => ?_)) sn_x0
      refine sn_iconst hO kc_1 dX0_sure_44 ?_
      refine sn_icmp_ne hO 55 (by decide) dX0_sure_45 ?_ ?_
      · refine sn_iconst hO kc_m1 dX0_sure_55 ?_
        subst hQq
        exact sn_iret hO rfl dX0_sure_56
      · refine sn_iload_n hO 0 rfl dX0_sure_48 ?_
        refine sn_callS hO (c2 := 0) (s2 := 0) (rm := rmJ12_numberOfTrailingZeros) [.int v12] csX0_346 (fun h => ctJ12_numberOfTrailingZeros h) ⟨Nat.le_of_ble_eq_true rfl, Nat.le_of_ble_eq_true rfl⟩ rfl rfl (Nat.le_of_ble_eq_true rfl) ⟨Nat.le_of_ble_eq_true rfl, Nat.le_of_ble_eq_true rfl, rfl, rfl⟩ dX0_sure_49 (sn_bIp (fun r15 => ?_)) sn_x0
        refine sn_goto hO 56 (by decide) dX0_sure_52 ?_
        subst hQq
        exact sn_iret hO rfl dX0_sure_56
    · intro k13 hk13
      refine sn_if_ne hO 32 (by decide) dX0_sure_19 ?_ ?_
      · refine sn_aload_n hO 0 rfl dX0_sure_32 ?_
        refine sn_getF hO fX0_87 atX_0 dX0_sure_33 ?_
        refine sn_getIN hO fX0_343 atX_94 dX0_sure_36 ?_
        refine sn_sub [] rfl ?_
        exact hk13 _
      · refine sn_aload_n hO 0 rfl dX0_sure_22 ?_
        refine sn_getF hO fX0_87 atX_0 dX0_sure_23 ?_
        refine sn_getIN hO fX0_340 atX_94 dX0_sure_26 ?_
        refine sn_goto hO 39 (by decide) dX0_sure_29 ?_
        refine sn_sub [] rfl ?_
        exact hk13 _
  · refine sn_iconst hO kc_m1 dX0_sure_9 ?_
    subst hQq
    exact sn_iret hO rfl dX0_sure_10
theorem ctX0_sure {w : sn_W} {p1 : Int32} {S : sn_S} {Q : Int32 → sn_S → Prop} (h : wpX0_sure w p1 S Q) : sn_Ct LoX w yX0_sure (ws_ yX0_sure cX0_sure 3 (some .int)) rmX0_sure [.ref (w.2.2.1 0), .int p1] S (sn_qI Q) sn_noE := sn_Ct_of (XX_O w) (by decide) (Nat.le_of_ble_eq_true rfl) RX0 rfl (fun C hO => wkX0_sure hO p1 S Q h)
def rmX0_ahead : Room := { frames := 20, cells := 0, slots := 0, locals := 930 }
/-- SnailPost.ahead(II)I -/
def wpX0_ahead (w : sn_W) (p1 : Int32) (p2 : Int32) (S : sn_S) (Q : Int32 → sn_S → Prop) : Prop :=
  wpX0_isSnail w p1 S (fun (r10 : Int32) => ((r10 = 0 → Q (-1) S) ∧ (¬ r10 = 0 → wpX0_isSnail w p2 S (fun (r11 : Int32) => ((r11 = 0 → Q (-1) S) ∧ (¬ r11 = 0 → ((¬ p1 = p2 → wpX8_looks w S (fun (S12 : sn_S) => (vp_in ((6 * p1) + p2) 36 ∧ Q (S12.1 97 (((6 * p1) + p2)).toNatClampNeg) S12))) ∧ (p1 = p2 → Q (-1) S))))))))
theorem wkX0_ahead {w : sn_W} {C : sn_C} (hO : sn_Ok LoX w C RX0 cX0_ahead 3 (some .int) [] "ahead") (p1 : Int32) (p2 : Int32) (S : sn_S) (Q : Int32 → sn_S → Prop) : wpX0_ahead w p1 p2 S Q → sn_G LoX w rmX0_ahead (sn_qI Q) sn_noE C 0 0 0 [(0, .ref (w.2.2.1 0)), (1, .int p1), (2, .int p2)] [] S := by
  unfold wpX0_ahead
  generalize hQq : (sn_qI Q) = Qq
  refine sn_aload_n hO 0 rfl dX0_ahead_0 ?_
  refine sn_iload_n hO 1 rfl dX0_ahead_1 ?_
  refine sn_callV hO (c2 := 0) (s2 := 0) (rm := rmX0_isSnail) [.int p1] cvX0_158 (fun _ => sn_Rv_K atX_0) (fun h => ctX0_isSnail h) ⟨Nat.le_of_ble_eq_true rfl, Nat.le_of_ble_eq_true rfl⟩ rfl rfl (Nat.le_of_ble_eq_true rfl) ⟨Nat.le_of_ble_eq_true rfl, Nat.le_of_ble_eq_true rfl, rfl, rfl⟩ dX0_ahead_2 (sn_bIp (fun r10 => ?_)) sn_x0
  refine sn_if_eq hO 21 (by decide) dX0_ahead_5 ?_ ?_
  · refine sn_iconst hO kc_m1 dX0_ahead_21 ?_
    subst hQq
    exact sn_iret hO rfl dX0_ahead_22
  · refine sn_aload_n hO 0 rfl dX0_ahead_8 ?_
    refine sn_iload_n hO 2 rfl dX0_ahead_9 ?_
    refine sn_callV hO (c2 := 0) (s2 := 0) (rm := rmX0_isSnail) [.int p2] cvX0_158 (fun _ => sn_Rv_K atX_0) (fun h => ctX0_isSnail h) ⟨Nat.le_of_ble_eq_true rfl, Nat.le_of_ble_eq_true rfl⟩ rfl rfl (Nat.le_of_ble_eq_true rfl) ⟨Nat.le_of_ble_eq_true rfl, Nat.le_of_ble_eq_true rfl, rfl, rfl⟩ dX0_ahead_10 (sn_bIp (fun r11 => ?_)) sn_x0
    refine sn_if_eq hO 21 (by decide) dX0_ahead_13 ?_ ?_
    · refine sn_iconst hO kc_m1 dX0_ahead_21 ?_
      subst hQq
      exact sn_iret hO rfl dX0_ahead_22
    · refine sn_iload_n hO 1 rfl dX0_ahead_16 ?_
      refine sn_iload_n hO 2 rfl dX0_ahead_17 ?_
      refine sn_icmp_ne hO 23 (by decide) dX0_ahead_18 ?_ ?_
      · refine sn_aload_n hO 0 rfl dX0_ahead_23 ?_
        refine sn_getF hO fX0_87 atX_0 dX0_ahead_24 ?_
        refine sn_callV hO (c2 := 0) (s2 := 0) (rm := rmX8_looks) [] cvX0_337 (fun _ => sn_Rv_K atX_94) (fun h => ctX8_looks h) ⟨Nat.le_of_ble_eq_true rfl, Nat.le_of_ble_eq_true rfl⟩ rfl rfl (Nat.le_of_ble_eq_true rfl) ⟨Nat.le_of_ble_eq_true rfl, Nat.le_of_ble_eq_true rfl, rfl, rfl⟩ dX0_ahead_27 (sn_bV (fun S12 => ?_)) sn_x0
        refine sn_aload_n hO 0 rfl dX0_ahead_30 ?_
        refine sn_getF hO fX0_87 atX_0 dX0_ahead_31 ?_
        refine sn_getFN hO fX0_349 atX_94 dX0_ahead_34 ?_
        refine sn_bipush hO kb_6 dX0_ahead_37 ?_
        refine sn_iload_n hO 1 rfl dX0_ahead_39 ?_
        refine sn_imul hO dX0_ahead_40 ?_
        refine sn_iload_n hO 2 rfl dX0_ahead_41 ?_
        refine sn_iadd hO dX0_ahead_42 ?_
        refine sn_iald hO atX_97 rfl dX0_ahead_43 ?_
        subst hQq
        exact sn_iret hO rfl dX0_ahead_44
      · refine sn_iconst hO kc_m1 dX0_ahead_21 ?_
        subst hQq
        exact sn_iret hO rfl dX0_ahead_22
theorem ctX0_ahead {w : sn_W} {p1 : Int32} {p2 : Int32} {S : sn_S} {Q : Int32 → sn_S → Prop} (h : wpX0_ahead w p1 p2 S Q) : sn_Ct LoX w yX0_ahead (ws_ yX0_ahead cX0_ahead 3 (some .int)) rmX0_ahead [.ref (w.2.2.1 0), .int p1, .int p2] S (sn_qI Q) sn_noE := sn_Ct_of (XX_O w) (by decide) (Nat.le_of_ble_eq_true rfl) RX0 rfl (fun C hO => wkX0_ahead hO p1 p2 S Q h)
def rmX0_draw : Room := { frames := 0, cells := 0, slots := 0, locals := 0 }
/-- SnailPost.draw(I)I -/
def wpX0_draw (w : sn_W) (p1 : Int32) (S : sn_S) (Q : Int32 → sn_S → Prop) : Prop :=
  sn_lt (sn_pI S 0 27 (Int64.toInt32 ((((Int32.toInt64 (S.1 0 27)) * 1103) + 12345) - (((Int32.toInt64 (S.1 0 27)) * 1103) + 12345) / 1000003 * 1000003))) (fun S10 => (¬ p1 = 0 ∧ Q ((S10.1 0 27) - (S10.1 0 27) / p1 * p1) S10))
theorem wkX0_draw {w : sn_W} {C : sn_C} (hO : sn_Ok LoX w C RX0 cX0_draw 2 (some .int) [] "draw") (p1 : Int32) (S : sn_S) (Q : Int32 → sn_S → Prop) : wpX0_draw w p1 S Q → sn_G LoX w rmX0_draw (sn_qI Q) sn_noE C 0 0 0 [(0, .ref (w.2.2.1 0)), (1, .int p1)] [] S := by
  unfold wpX0_draw
  generalize hQq : (sn_qI Q) = Qq
  refine sn_aload_n hO 0 rfl dX0_draw_0 ?_
  refine sn_aload_n hO 0 rfl dX0_draw_1 ?_
  refine sn_getI hO fX0_352 atX_0 dX0_draw_2 ?_
  refine sn_i2l hO dX0_draw_5 ?_
  refine sn_ldc2 hO q1408 dX0_draw_6 ?_
  refine sn_lmul hO dX0_draw_9 ?_
  refine sn_ldc2 hO q1409 dX0_draw_10 ?_
  refine sn_ladd hO dX0_draw_13 ?_
  refine sn_ldc2 hO q1410 dX0_draw_14 ?_
  refine sn_lrem hO (by decide) dX0_draw_17 ?_
  refine sn_l2i hO dX0_draw_18 ?_
  refine sn_putI hO fX0_352 atX_0 rfl rfl dX0_draw_19 ?_
  refine sn_nmS (fun S10 => ?_)
  refine sn_aload_n hO 0 rfl dX0_draw_22 ?_
  refine sn_getI hO fX0_352 atX_0 dX0_draw_23 ?_
  refine sn_iload_n hO 1 rfl dX0_draw_26 ?_
  refine sn_iremP hO dX0_draw_27 ?_
  subst hQq
  exact sn_iret hO rfl dX0_draw_28
theorem ctX0_draw {w : sn_W} {p1 : Int32} {S : sn_S} {Q : Int32 → sn_S → Prop} (h : wpX0_draw w p1 S Q) : sn_Ct LoX w yX0_draw (ws_ yX0_draw cX0_draw 2 (some .int)) rmX0_draw [.ref (w.2.2.1 0), .int p1] S (sn_qI Q) sn_noE := sn_Ct_of (XX_O w) (by decide) (Nat.le_of_ble_eq_true rfl) RX0 rfl (fun C hO => wkX0_draw hO p1 S Q h)
def rmX4_eats : Room := { frames := 261, cells := 0, slots := 0, locals := 12927 }
/-- SnailPost$Walk.eats(III)I -/
def wpX4_eats (w : sn_W) (kw : Nat) (p1 : Int32) (p2 : Int32) (p3 : Int32) (S : sn_S) (Q : Int32 → sn_S → Prop) : Prop :=
  (vp_in p1 6 ∧ wpX4_asks w kw 1 p1 (S.1 (kw + 1) (p1).toNatClampNeg) p2 p3 S (fun (r10 : Int64) (S11 : sn_S) => ((¬ (lg_cmp r10 (-4000000000)) = 0 → Q (Int64.toInt32 (if (if r10 < (100 : Int64) then r10 else (100 : Int64)) < (0 : Int64) then (0 : Int64) else (if r10 < (100 : Int64) then r10 else (100 : Int64)))) S11) ∧ ((lg_cmp r10 (-4000000000)) = 0 → Q 0 S11))))
theorem wkX4_eats {w : sn_W} {C : sn_C} (hO : sn_Ok LoX w C RX4 cX4_eats 6 (some .int) [] "eats") (kw : Nat) (p1 : Int32) (p2 : Int32) (p3 : Int32) (S : sn_S) (hkw : isW kw = true) (Q : Int32 → sn_S → Prop) : wpX4_eats w kw p1 p2 p3 S Q → sn_G LoX w rmX4_eats (sn_qI Q) sn_noE C 0 0 0 [(0, .ref (w.2.2.1 kw)), (1, .int p1), (2, .int p2), (3, .int p3)] [] S := by
  unfold wpX4_eats
  generalize hQq : (sn_qI Q) = Qq
  refine sn_aload_n hO 0 rfl dX4_eats_0 ?_
  refine sn_iconst hO kc_1 dX4_eats_1 ?_
  refine sn_iload_n hO 1 rfl dX4_eats_2 ?_
  refine sn_aload_n hO 0 rfl dX4_eats_3 ?_
  refine sn_getF hO (fX4_15 kw) (atW0 (k := kw) hkw) dX4_eats_4 ?_
  refine sn_iload_n hO 1 rfl dX4_eats_7 ?_
  refine sn_iald hO (atW1 (k := kw) hkw) rfl dX4_eats_8 ?_
  refine sn_iload_n hO 2 rfl dX4_eats_9 ?_
  refine sn_iload_n hO 3 rfl dX4_eats_10 ?_
  refine sn_callV hO (c2 := 0) (s2 := 0) (rm := rmX4_asks) [.int 1, .int p1, .int (S.1 (kw + 1) (p1).toNatClampNeg), .int p2, .int p3] cvX4_106 (fun _ => sn_Rv_K (atW0 (k := kw) hkw)) (fun h => ctX4_asks hkw h) ⟨Nat.le_of_ble_eq_true rfl, Nat.le_of_ble_eq_true rfl⟩ rfl rfl (Nat.le_of_ble_eq_true rfl) ⟨Nat.le_of_ble_eq_true rfl, Nat.le_of_ble_eq_true rfl, rfl, rfl⟩ dX4_eats_11 (sn_bL (fun r10 S11 => ?_)) sn_x0
  refine sn_lstore hO (lv' := [(4, .long r10), (0, .ref (w.2.2.1 kw)), (1, .int p1), (2, .int p2), (3, .int p3)]) (by decide) rfl dX4_eats_14 ?_
  refine sn_lload hO 0 rfl dX4_eats_16 ?_
  refine sn_ldc2 hO q1128 dX4_eats_18 ?_
  refine sn_lcmp hO dX4_eats_21 ?_
  refine sn_if_ne hO 29 (by decide) dX4_eats_22 ?_ ?_
  · refine sn_lconst hO (v := 0) rfl dX4_eats_29 ?_
    refine sn_ldc2 hO q1415 dX4_eats_30 ?_
    refine sn_lload hO 0 rfl dX4_eats_33 ?_
    refine sn_mMinL hO q1416 q1417 q134 q1418 ⟨Nat.le_of_ble_eq_true rfl, Nat.le_of_ble_eq_true rfl⟩ dX4_eats_35 ?_
    refine sn_mMaxL hO q1419 q1420 q134 q1421 ⟨Nat.le_of_ble_eq_true rfl, Nat.le_of_ble_eq_true rfl⟩ dX4_eats_38 ?_
    refine sn_l2i hO dX4_eats_41 ?_
    subst hQq
    exact sn_iret hO rfl dX4_eats_42
  · refine sn_iconst hO kc_0 dX4_eats_25 ?_
    refine sn_goto hO 42 (by decide) dX4_eats_26 ?_
    subst hQq
    exact sn_iret hO rfl dX4_eats_42
theorem ctX4_eats {w : sn_W} {kw : Nat} {p1 : Int32} {p2 : Int32} {p3 : Int32} (hkw : isW kw = true) {S : sn_S} {Q : Int32 → sn_S → Prop} (h : wpX4_eats w kw p1 p2 p3 S Q) : sn_Ct LoX w yX4_eats (ws_ yX4_eats cX4_eats 6 (some .int)) rmX4_eats [.ref (w.2.2.1 kw), .int p1, .int p2, .int p3] S (sn_qI Q) sn_noE := sn_Ct_of (XX_O w) (by decide) (Nat.le_of_ble_eq_true rfl) RX4 rfl (fun C hO => wkX4_eats hO kw p1 p2 p3 S hkw Q h)
def rmX0_hunt : Room := { frames := 265, cells := 0, slots := 0, locals := 13032 }
/-- SnailPost.hunt(I)I -/
def wpX0_hunt (w : sn_W) (p1 : Int32) (S : sn_S) (Q : Int32 → sn_S → Prop) : Prop :=
  wpX0_in w p1 0 1000000 (fun (r10 : Int32) => ((¬ r10 = 0 → sn_lt (sn_pI S 0 27 p1) (fun S11 => sn_lt (sn_pI S11 0 26 (S11.1 2 8)) (fun S12 => wpX4_begins w 98 S12 (fun (S13 : sn_S) => sn_jn (fun (S14 : sn_S) => sn_jn (fun (S16 : sn_S) => wpX0_ones w (S16.1 98 4) (fun (r18 : Int32) => wpX0_done w r18 S16 (fun (r19 : Int32) (S20 : sn_S) => Q r19 S20))) (fun (k17 : sn_S → Prop) => sn_lp2 (fun (rc23 : Int32 → sn_S → Prop) (i21 : Int32) (S22 : sn_S) => ((5 ≤ i21 → k17 S22) ∧ (¬ 5 ≤ i21 → (vp_in i21 5 ∧ wpX4_hour w 98 i21 (S22.1 6 (i21).toNatClampNeg) S22 (fun (S24 : sn_S) => sn_jn (fun (S25 : sn_S) => rc23 (i21 + 1) S25) (fun (k26 : sn_S → Prop) => sn_lp2 (fun (rc29 : Int32 → sn_S → Prop) (i27 : Int32) (S28 : sn_S) => (((S28.1 0 26) ≤ i27 → k26 S28) ∧ (¬ (S28.1 0 26) ≤ i27 → (vp_in i27 6 ∧ sn_jn (fun (S30 : sn_S) => rc29 (i27 + 1) S30) (fun (k31 : sn_S → Prop) => ((¬ (S28.1 (98 + 2) (i27).toNatClampNeg) = (-1) → k31 S28) ∧ ((S28.1 (98 + 2) (i27).toNatClampNeg) = (-1) → wpX0_isOf w (S28.1 98 4) i27 (fun (r32 : Int32) => ((¬ r32 = 0 → k31 S28) ∧ (r32 = 0 → wpX0_draw w 100 S28 (fun (r33 : Int32) (S34 : sn_S) => (vp_in i21 5 ∧ wpX4_eats w 98 i27 i21 (S34.1 6 (i21).toNatClampNeg) S34 (fun (r35 : Int32) (S36 : sn_S) => ((r33 < r35 → sn_lt (sn_pI S36 98 4 ((S36.1 98 4) ||| (1 <<< (i27 &&& 31)))) (fun S37 => (vp_in i27 6 ∧ sn_lt (sn_pI S37 103 (i27).toNatClampNeg i21) (fun S38 => k31 S38)))) ∧ (¬ r33 < r35 → k31 S36))))))))))))))) 0 S24)))))) 0 S14)) (fun (k15 : sn_S → Prop) => sn_lp2 (fun (rc41 : Int32 → sn_S → Prop) (i39 : Int32) (S40 : sn_S) => ((6 ≤ i39 → k15 S40) ∧ (¬ 6 ≤ i39 → (vp_in i39 6 ∧ sn_lt (sn_pI S40 103 (i39).toNatClampNeg (-1)) (fun S42 => rc41 (i39 + 1) S42))))) 0 S13))))) ∧ (r10 = 0 → wpX0_refuse w (-1) S (fun (r43 : Int32) (S44 : sn_S) => Q r43 S44))))
theorem wkX0_hunt {w : sn_W} {C : sn_C} (hO : sn_Ok LoX w C RX0 cX0_hunt 4 (some .int) [] "hunt") (p1 : Int32) (S : sn_S) (Q : Int32 → sn_S → Prop) : wpX0_hunt w p1 S Q → sn_G LoX w rmX0_hunt (sn_qI Q) sn_noE C 0 0 0 [(0, .ref (w.2.2.1 0)), (1, .int p1)] [] S := by
  unfold wpX0_hunt
  generalize hQq : (sn_qI Q) = Qq
  refine sn_iload_n hO 1 rfl dX0_hunt_0 ?_
  refine sn_iconst hO kc_0 dX0_hunt_1 ?_
  refine sn_ldc_w hO q1402 dX0_hunt_2 ?_
  refine sn_callS hO (c2 := 0) (s2 := 0) (rm := rmX0_in) [.int p1, .int 0, .int 1000000] csX0_112 (fun h => ctX0_in h) ⟨Nat.le_of_ble_eq_true rfl, Nat.le_of_ble_eq_true rfl⟩ rfl rfl (Nat.le_of_ble_eq_true rfl) ⟨Nat.le_of_ble_eq_true rfl, Nat.le_of_ble_eq_true rfl, rfl, rfl⟩ dX0_hunt_5 (sn_bIp (fun r10 => ?_)) sn_x0
  refine sn_if_ne hO 17 (by decide) dX0_hunt_8 ?_ ?_
  · refine sn_aload_n hO 0 rfl dX0_hunt_17 ?_
    refine sn_iload_n hO 1 rfl dX0_hunt_18 ?_
    refine sn_putI hO fX0_352 atX_0 rfl rfl dX0_hunt_19 ?_
    refine sn_nmS (fun S11 => ?_)
    refine sn_aload_n hO 0 rfl dX0_hunt_22 ?_
    refine sn_aload_n hO 0 rfl dX0_hunt_23 ?_
    refine sn_getF hO fX0_16 atX_0 dX0_hunt_24 ?_
    refine sn_getIN hO fX0_116 atX_2 dX0_hunt_27 ?_
    refine sn_putI hO fX0_362 atX_0 rfl rfl dX0_hunt_30 ?_
    refine sn_nmS (fun S12 => ?_)
    refine sn_aload_n hO 0 rfl dX0_hunt_33 ?_
    refine sn_getF hO fX0_91 atX_0 dX0_hunt_34 ?_
    refine sn_callV hO (c2 := 0) (s2 := 0) (rm := rmX4_begins) [] cvX0_229 (fun _ => sn_Rv_K (atW0 (k := 98) rfl)) (fun h => ctX4_begins rfl h) ⟨Nat.le_of_ble_eq_true rfl, Nat.le_of_ble_eq_true rfl⟩ rfl rfl (Nat.le_of_ble_eq_true rfl) ⟨Nat.le_of_ble_eq_true rfl, Nat.le_of_ble_eq_true rfl, rfl, rfl⟩ dX0_hunt_37 (sn_bV (fun S13 => ?_)) sn_x0
    refine sn_iconst hO kc_0 dX0_hunt_40 ?_
    refine sn_istore_n hO (lv' := [(2, .int 0), (0, .ref (w.2.2.1 0)), (1, .int p1)]) (by decide) rfl dX0_hunt_41 ?_
    refine sn_jn_walk (fun (k : sn_S → Prop) => ∀ (S14 : sn_S), k S14 → sn_G LoX w rmX0_hunt Qq sn_noE C 0 0 61 [(0, .ref (w.2.2.1 0))] [] S14) ?_ ?_
    · intro S14
      refine sn_iconst hO kc_0 dX0_hunt_61 ?_
      refine sn_istore_n hO (lv' := [(2, .int 0), (0, .ref (w.2.2.1 0))]) (by decide) rfl dX0_hunt_62 ?_
      refine sn_jn_walk (fun (k : sn_S → Prop) => ∀ (S16 : sn_S), k S16 → sn_G LoX w rmX0_hunt Qq sn_noE C 0 0 186 [(0, .ref (w.2.2.1 0))] [] S16) ?_ ?_
      · intro S16
        refine sn_aload_n hO 0 rfl dX0_hunt_186 ?_
        refine sn_aload_n hO 0 rfl dX0_hunt_187 ?_
        refine sn_getF hO fX0_91 atX_0 dX0_hunt_188 ?_
        refine sn_getIN hO (fX0_368 98) (atW0 (k := 98) rfl) dX0_hunt_191 ?_
        refine sn_callS hO (c2 := 0) (s2 := 0) (rm := rmX0_ones) [.int (S16.1 98 4)] csX0_313 (fun h => ctX0_ones h) ⟨Nat.le_of_ble_eq_true rfl, Nat.le_of_ble_eq_true rfl⟩ rfl rfl (Nat.le_of_ble_eq_true rfl) ⟨Nat.le_of_ble_eq_true rfl, Nat.le_of_ble_eq_true rfl, rfl, rfl⟩ dX0_hunt_194 (sn_bIp (fun r18 => ?_)) sn_x0
        refine sn_callV hO (c2 := 0) (s2 := 0) (rm := rmX0_done) [.int r18] cvX0_109 (fun _ => sn_Rv_K atX_0) (fun h => ctX0_done h) ⟨Nat.le_of_ble_eq_true rfl, Nat.le_of_ble_eq_true rfl⟩ rfl rfl (Nat.le_of_ble_eq_true rfl) ⟨Nat.le_of_ble_eq_true rfl, Nat.le_of_ble_eq_true rfl, rfl, rfl⟩ dX0_hunt_197 (sn_bI (fun r19 S20 => ?_)) sn_x0
        subst hQq
        exact sn_iret hO rfl dX0_hunt_200
      · intro k17 hk17
        refine sn_sub [1, 0] rfl ?_
        refine sn_lp2_walk (Gd := fun (i21 : Int32) (S22 : sn_S) => sn_G LoX w rmX0_hunt Qq sn_noE C 0 0 63 [(0, .ref (w.2.2.1 0)), (2, .int i21)] [] S22) ?_ _ _
        intro rc23 hrc23 i21 S22
        refine sn_iload_n hO 1 rfl dX0_hunt_63 ?_
        refine sn_iconst hO kc_5 dX0_hunt_64 ?_
        refine sn_icmp_ge hO 186 (by decide) dX0_hunt_65 ?_ ?_
        · refine sn_sub [0] rfl ?_
          exact hk17 _
        · refine sn_aload_n hO 0 rfl dX0_hunt_68 ?_
          refine sn_getF hO fX0_91 atX_0 dX0_hunt_69 ?_
          refine sn_iload_n hO 1 rfl dX0_hunt_72 ?_
          refine sn_aload_n hO 0 rfl dX0_hunt_73 ?_
          refine sn_getF hO fX0_16 atX_0 dX0_hunt_74 ?_
          refine sn_getFN hO fX0_170 atX_2 dX0_hunt_77 ?_
          refine sn_iload_n hO 1 rfl dX0_hunt_80 ?_
          refine sn_iald hO atX_6 rfl dX0_hunt_81 ?_
          refine sn_callV hO (c2 := 0) (s2 := 0) (rm := rmX4_hour) [.int i21, .int (S22.1 6 (i21).toNatClampNeg)] cvX0_365 (fun _ => sn_Rv_K (atW0 (k := 98) rfl)) (fun h => ctX4_hour rfl h) ⟨Nat.le_of_ble_eq_true rfl, Nat.le_of_ble_eq_true rfl⟩ rfl rfl (Nat.le_of_ble_eq_true rfl) ⟨Nat.le_of_ble_eq_true rfl, Nat.le_of_ble_eq_true rfl, rfl, rfl⟩ dX0_hunt_82 (sn_bV (fun S24 => ?_)) sn_x0
          refine sn_iconst hO kc_0 dX0_hunt_85 ?_
          refine sn_istore_n hO (lv' := [(3, .int 0), (0, .ref (w.2.2.1 0)), (2, .int i21)]) (by decide) rfl dX0_hunt_86 ?_
          refine sn_jn_walk (fun (k : sn_S → Prop) => ∀ (S25 : sn_S), k S25 → sn_G LoX w rmX0_hunt Qq sn_noE C 0 0 180 [(0, .ref (w.2.2.1 0)), (2, .int i21)] [] S25) ?_ ?_
          · intro S25
            refine sn_iinc hO (lv' := [(2, .int (i21 + 1)), (0, .ref (w.2.2.1 0))]) 1 rfl ki_1 (by decide) rfl dX0_hunt_180 ?_
            refine sn_goto hO 63 (by decide) dX0_hunt_183 ?_
            refine sn_sub [1, 0] rfl ?_
            exact hrc23 _ _
          · intro k26 hk26
            refine sn_sub [1, 2, 0] rfl ?_
            refine sn_lp2_walk (Gd := fun (i27 : Int32) (S28 : sn_S) => sn_G LoX w rmX0_hunt Qq sn_noE C 0 0 87 [(0, .ref (w.2.2.1 0)), (2, .int i21), (3, .int i27)] [] S28) ?_ _ _
            intro rc29 hrc29 i27 S28
            refine sn_iload_n hO 2 rfl dX0_hunt_87 ?_
            refine sn_aload_n hO 0 rfl dX0_hunt_88 ?_
            refine sn_getI hO fX0_362 atX_0 dX0_hunt_89 ?_
            refine sn_icmp_ge hO 180 (by decide) dX0_hunt_92 ?_ ?_
            · refine sn_sub [0, 1] rfl ?_
              exact hk26 _
            · refine sn_aload_n hO 0 rfl dX0_hunt_95 ?_
              refine sn_getF hO fX0_91 atX_0 dX0_hunt_96 ?_
              refine sn_getFN hO (fX0_248 98) (atW0 (k := 98) rfl) dX0_hunt_99 ?_
              refine sn_iload_n hO 2 rfl dX0_hunt_102 ?_
              refine sn_iald hO (atW2 (k := 98) rfl) rfl dX0_hunt_103 ?_
              refine sn_iconst hO kc_m1 dX0_hunt_104 ?_
              refine sn_jn_walk (fun (k : sn_S → Prop) => ∀ (S30 : sn_S), k S30 → sn_G LoX w rmX0_hunt Qq sn_noE C 0 0 174 [(0, .ref (w.2.2.1 0)), (2, .int i21), (3, .int i27)] [] S30) ?_ ?_
              · intro S30
                refine sn_iinc hO (lv' := [(3, .int (i27 + 1)), (0, .ref (w.2.2.1 0)), (2, .int i21)]) 2 rfl ki_1 (by decide) rfl dX0_hunt_174 ?_
                refine sn_goto hO 87 (by decide) dX0_hunt_177 ?_
                refine sn_sub [1, 2, 0] rfl ?_
                exact hrc29 _ _
              · intro k31 hk31
                refine sn_icmp_ne hO 174 (by decide) dX0_hunt_105 ?_ ?_
                · exact hk31 _
                · refine sn_aload_n hO 0 rfl dX0_hunt_108 ?_
                  refine sn_getF hO fX0_91 atX_0 dX0_hunt_109 ?_
                  refine sn_getIN hO (fX0_368 98) (atW0 (k := 98) rfl) dX0_hunt_112 ?_
                  refine sn_iload_n hO 2 rfl dX0_hunt_115 ?_
                  refine sn_callS hO (c2 := 0) (s2 := 0) (rm := rmX0_isOf) [.int (S28.1 98 4), .int i27] csX0_301 (fun h => ctX0_isOf h) ⟨Nat.le_of_ble_eq_true rfl, Nat.le_of_ble_eq_true rfl⟩ rfl rfl (Nat.le_of_ble_eq_true rfl) ⟨Nat.le_of_ble_eq_true rfl, Nat.le_of_ble_eq_true rfl, rfl, rfl⟩ dX0_hunt_116 (sn_bIp (fun r32 => ?_)) sn_x0
                  refine sn_if_ne hO 174 (by decide) dX0_hunt_119 ?_ ?_
                  · exact hk31 _
                  · refine sn_aload_n hO 0 rfl dX0_hunt_122 ?_
                    refine sn_bipush hO kb_100 dX0_hunt_123 ?_
                    refine sn_callV hO (c2 := 0) (s2 := 0) (rm := rmX0_draw) [.int 100] cvX0_371 (fun _ => sn_Rv_K atX_0) (fun h => ctX0_draw h) ⟨Nat.le_of_ble_eq_true rfl, Nat.le_of_ble_eq_true rfl⟩ rfl rfl (Nat.le_of_ble_eq_true rfl) ⟨Nat.le_of_ble_eq_true rfl, Nat.le_of_ble_eq_true rfl, rfl, rfl⟩ dX0_hunt_125 (sn_bI (fun r33 S34 => ?_)) sn_x0
                    refine sn_aload_n hO 0 rfl dX0_hunt_128 ?_
                    refine sn_getF hO fX0_91 atX_0 dX0_hunt_129 ?_
                    refine sn_iload_n hO 2 rfl dX0_hunt_132 ?_
                    refine sn_iload_n hO 1 rfl dX0_hunt_133 ?_
                    refine sn_aload_n hO 0 rfl dX0_hunt_134 ?_
                    refine sn_getF hO fX0_16 atX_0 dX0_hunt_135 ?_
                    refine sn_getFN hO fX0_170 atX_2 dX0_hunt_138 ?_
                    refine sn_iload_n hO 1 rfl dX0_hunt_141 ?_
                    refine sn_iald hO atX_6 rfl dX0_hunt_142 ?_
                    refine sn_callV hO (c2 := 0) (s2 := 0) (rm := rmX4_eats) [.int i27, .int i21, .int (S34.1 6 (i21).toNatClampNeg)] cvX0_374 (fun _ => sn_Rv_K (atW0 (k := 98) rfl)) (fun h => ctX4_eats rfl h) ⟨Nat.le_of_ble_eq_true rfl, Nat.le_of_ble_eq_true rfl⟩ rfl rfl (Nat.le_of_ble_eq_true rfl) ⟨Nat.le_of_ble_eq_true rfl, Nat.le_of_ble_eq_true rfl, rfl, rfl⟩ dX0_hunt_143 (sn_bI (fun r35 S36 => ?_)) sn_x0
                    refine sn_icmp_lt hO 152 (by decide) dX0_hunt_146 ?_ ?_
                    · refine sn_aload_n hO 0 rfl dX0_hunt_152 ?_
                      refine sn_getF hO fX0_91 atX_0 dX0_hunt_153 ?_
                      refine sn_dup hO rfl dX0_hunt_156 ?_
                      refine sn_getIN hO (fX0_368 98) (atW0 (k := 98) rfl) dX0_hunt_157 ?_
                      refine sn_iconst hO kc_1 dX0_hunt_160 ?_
                      refine sn_iload_n hO 2 rfl dX0_hunt_161 ?_
                      refine sn_ishl hO dX0_hunt_162 ?_
                      refine sn_ior hO dX0_hunt_163 ?_
                      refine sn_putIN hO (fX0_368 98) (atW0 (k := 98) rfl) rfl rfl dX0_hunt_164 ?_
                      refine sn_nmS (fun S37 => ?_)
                      refine sn_aload_n hO 0 rfl dX0_hunt_167 ?_
                      refine sn_getF hO fX0_94 atX_0 dX0_hunt_168 ?_
                      refine sn_iload_n hO 2 rfl dX0_hunt_171 ?_
                      refine sn_iload_n hO 1 rfl dX0_hunt_172 ?_
                      refine sn_iast hO atX_103 rfl dX0_hunt_173 ?_
                      refine sn_nmS (fun S38 => ?_)
                      exact hk31 _
                    · refine sn_goto hO 174 (by decide) dX0_hunt_149 ?_
                      exact hk31 _
    · intro k15 hk15
      refine sn_sub [1, 0] rfl ?_
      refine sn_lp2_walk (Gd := fun (i39 : Int32) (S40 : sn_S) => sn_G LoX w rmX0_hunt Qq sn_noE C 0 0 42 [(0, .ref (w.2.2.1 0)), (2, .int i39)] [] S40) ?_ _ _
      intro rc41 hrc41 i39 S40
      refine sn_iload_n hO 1 rfl dX0_hunt_42 ?_
      refine sn_bipush hO kb_6 dX0_hunt_43 ?_
      refine sn_icmp_ge hO 61 (by decide) dX0_hunt_45 ?_ ?_
      · refine sn_sub [0] rfl ?_
        exact hk15 _
      · refine sn_aload_n hO 0 rfl dX0_hunt_48 ?_
        refine sn_getF hO fX0_94 atX_0 dX0_hunt_49 ?_
        refine sn_iload_n hO 1 rfl dX0_hunt_52 ?_
        refine sn_iconst hO kc_m1 dX0_hunt_53 ?_
        refine sn_iast hO atX_103 rfl dX0_hunt_54 ?_
        refine sn_nmS (fun S42 => ?_)
        refine sn_iinc hO (lv' := [(2, .int (i39 + 1)), (0, .ref (w.2.2.1 0))]) 1 rfl ki_1 (by decide) rfl dX0_hunt_55 ?_
        refine sn_goto hO 42 (by decide) dX0_hunt_58 ?_
        refine sn_sub [1, 0] rfl ?_
        exact hrc41 _ _
  · refine sn_aload_n hO 0 rfl dX0_hunt_11 ?_
    refine sn_iconst hO kc_m1 dX0_hunt_12 ?_
    refine sn_callV hO (c2 := 0) (s2 := 0) (rm := rmX0_refuse) [.int (-1)] cvX0_122 (fun _ => sn_Rv_K atX_0) (fun h => ctX0_refuse h) ⟨Nat.le_of_ble_eq_true rfl, Nat.le_of_ble_eq_true rfl⟩ rfl rfl (Nat.le_of_ble_eq_true rfl) ⟨Nat.le_of_ble_eq_true rfl, Nat.le_of_ble_eq_true rfl, rfl, rfl⟩ dX0_hunt_13 (sn_bI (fun r43 S44 => ?_)) sn_x0
    subst hQq
    exact sn_iret hO rfl dX0_hunt_16
theorem ctX0_hunt {w : sn_W} {p1 : Int32} {S : sn_S} {Q : Int32 → sn_S → Prop} (h : wpX0_hunt w p1 S Q) : sn_Ct LoX w yX0_hunt (ws_ yX0_hunt cX0_hunt 4 (some .int)) rmX0_hunt [.ref (w.2.2.1 0), .int p1] S (sn_qI Q) sn_noE := sn_Ct_of (XX_O w) (by decide) (Nat.le_of_ble_eq_true rfl) RX0 rfl (fun C hO => wkX0_hunt hO p1 S Q h)
def rmX0_hunted : Room := { frames := 1, cells := 0, slots := 0, locals := 22 }
/-- SnailPost.hunted(II)I -/
def wpX0_hunted (w : sn_W) (p1 : Int32) (p2 : Int32) (S : sn_S) (Q : Int32 → Prop) : Prop :=
  wpX0_in w p1 0 ((S.1 0 26) - 1) (fun (r10 : Int32) => ((r10 = 0 → Q (-1)) ∧ (¬ r10 = 0 → wpX0_in w p2 0 2 (fun (r11 : Int32) => ((¬ r11 = 0 → ((¬ p2 = 0 → ((¬ p2 = 1 → (vp_in p1 6 ∧ Q (S.1 (98 + 1) (p1).toNatClampNeg))) ∧ (p2 = 1 → (vp_in p1 6 ∧ Q (S.1 (98 + 2) (p1).toNatClampNeg))))) ∧ (p2 = 0 → (vp_in p1 6 ∧ Q (S.1 103 (p1).toNatClampNeg))))) ∧ (r11 = 0 → Q (-1)))))))
theorem wkX0_hunted {w : sn_W} {C : sn_C} (hO : sn_Ok LoX w C RX0 cX0_hunted 3 (some .int) [] "hunted") (p1 : Int32) (p2 : Int32) (S : sn_S) (Q : Int32 → Prop) : wpX0_hunted w p1 p2 S Q → sn_G LoX w rmX0_hunted (sn_qI (fun r S1 => S1 = S ∧ Q r)) sn_noE C 0 0 0 [(0, .ref (w.2.2.1 0)), (1, .int p1), (2, .int p2)] [] S := by
  unfold wpX0_hunted
  generalize hQq : (sn_qI (fun r S1 => S1 = S ∧ Q r)) = Qq
  refine sn_iload_n hO 1 rfl dX0_hunted_0 ?_
  refine sn_iconst hO kc_0 dX0_hunted_1 ?_
  refine sn_aload_n hO 0 rfl dX0_hunted_2 ?_
  refine sn_getI hO fX0_362 atX_0 dX0_hunted_3 ?_
  refine sn_iconst hO kc_1 dX0_hunted_6 ?_
  refine sn_isub hO dX0_hunted_7 ?_
  refine sn_callS hO (c2 := 0) (s2 := 0) (rm := rmX0_in) [.int p1, .int 0, .int ((S.1 0 26) - 1)] csX0_112 (fun h => ctX0_in h) ⟨Nat.le_of_ble_eq_true rfl, Nat.le_of_ble_eq_true rfl⟩ rfl rfl (Nat.le_of_ble_eq_true rfl) ⟨Nat.le_of_ble_eq_true rfl, Nat.le_of_ble_eq_true rfl, rfl, rfl⟩ dX0_hunted_8 (sn_bIp (fun r10 => ?_)) sn_x0
  refine sn_if_eq hO 23 (by decide) dX0_hunted_11 ?_ ?_
  · refine sn_iconst hO kc_m1 dX0_hunted_23 ?_
    refine sn_goto hO 66 (by decide) dX0_hunted_24 ?_
    subst hQq
    exact fun h => sn_iret hO rfl dX0_hunted_66 ⟨rfl, h⟩
  · refine sn_iload_n hO 2 rfl dX0_hunted_14 ?_
    refine sn_iconst hO kc_0 dX0_hunted_15 ?_
    refine sn_iconst hO kc_2 dX0_hunted_16 ?_
    refine sn_callS hO (c2 := 0) (s2 := 0) (rm := rmX0_in) [.int p2, .int 0, .int 2] csX0_112 (fun h => ctX0_in h) ⟨Nat.le_of_ble_eq_true rfl, Nat.le_of_ble_eq_true rfl⟩ rfl rfl (Nat.le_of_ble_eq_true rfl) ⟨Nat.le_of_ble_eq_true rfl, Nat.le_of_ble_eq_true rfl, rfl, rfl⟩ dX0_hunted_17 (sn_bIp (fun r11 => ?_)) sn_x0
    refine sn_if_ne hO 27 (by decide) dX0_hunted_20 ?_ ?_
    · refine sn_iload_n hO 2 rfl dX0_hunted_27 ?_
      refine sn_if_ne hO 40 (by decide) dX0_hunted_28 ?_ ?_
      · refine sn_iload_n hO 2 rfl dX0_hunted_40 ?_
        refine sn_iconst hO kc_1 dX0_hunted_41 ?_
        refine sn_icmp_ne hO 57 (by decide) dX0_hunted_42 ?_ ?_
        · refine sn_aload_n hO 0 rfl dX0_hunted_57 ?_
          refine sn_getF hO fX0_91 atX_0 dX0_hunted_58 ?_
          refine sn_getFN hO (fX0_236 98) (atW0 (k := 98) rfl) dX0_hunted_61 ?_
          refine sn_iload_n hO 1 rfl dX0_hunted_64 ?_
          refine sn_iald hO (atW1 (k := 98) rfl) rfl dX0_hunted_65 ?_
          subst hQq
          exact fun h => sn_iret hO rfl dX0_hunted_66 ⟨rfl, h⟩
        · refine sn_aload_n hO 0 rfl dX0_hunted_45 ?_
          refine sn_getF hO fX0_91 atX_0 dX0_hunted_46 ?_
          refine sn_getFN hO (fX0_248 98) (atW0 (k := 98) rfl) dX0_hunted_49 ?_
          refine sn_iload_n hO 1 rfl dX0_hunted_52 ?_
          refine sn_iald hO (atW2 (k := 98) rfl) rfl dX0_hunted_53 ?_
          refine sn_goto hO 66 (by decide) dX0_hunted_54 ?_
          subst hQq
          exact fun h => sn_iret hO rfl dX0_hunted_66 ⟨rfl, h⟩
      · refine sn_aload_n hO 0 rfl dX0_hunted_31 ?_
        refine sn_getF hO fX0_94 atX_0 dX0_hunted_32 ?_
        refine sn_iload_n hO 1 rfl dX0_hunted_35 ?_
        refine sn_iald hO atX_103 rfl dX0_hunted_36 ?_
        refine sn_goto hO 66 (by decide) dX0_hunted_37 ?_
        subst hQq
        exact fun h => sn_iret hO rfl dX0_hunted_66 ⟨rfl, h⟩
    · refine sn_iconst hO kc_m1 dX0_hunted_23 ?_
      refine sn_goto hO 66 (by decide) dX0_hunted_24 ?_
      subst hQq
      exact fun h => sn_iret hO rfl dX0_hunted_66 ⟨rfl, h⟩
theorem ctX0_hunted {w : sn_W} {p1 : Int32} {p2 : Int32} {S : sn_S} {Q : Int32 → Prop} (h : wpX0_hunted w p1 p2 S Q) : sn_Ct LoX w yX0_hunted (ws_ yX0_hunted cX0_hunted 3 (some .int)) rmX0_hunted [.ref (w.2.2.1 0), .int p1, .int p2] S (sn_qI (fun r S1 => S1 = S ∧ Q r)) sn_noE := sn_Ct_of (XX_O w) (by decide) (Nat.le_of_ble_eq_true rfl) RX0 rfl (fun C hO => wkX0_hunted hO p1 p2 S Q h)
def rmX0_count : Room := { frames := 1, cells := 0, slots := 0, locals := 20 }
/-- SnailPost.count(I)I -/
def wpX0_count (w : sn_W) (p1 : Int32) (S : sn_S) (Q : Int32 → Prop) : Prop :=
  sn_jn (fun (v10 : Int32) (v11 : Int32) => sn_jn (κ := Prop) ((vp_in (p1 - 6) 7 ∧ Q (S.1 1 ((p1 - 6)).toNatClampNeg))) (fun (k13 : Prop) => sn_jn (κ := Prop) ((vp_in (p1 - 5) 7 ∧ Q (S.1 1 ((p1 - 5)).toNatClampNeg))) (fun (k14 : Prop) => sn_jn (κ := Prop) ((vp_in (p1 - 13) 2 ∧ Q (S.1 7 ((p1 - 13)).toNatClampNeg))) (fun (k15 : Prop) => sn_sw p1 0 [Q (S.1 2 8), Q (S.1 2 9), (sn_nn (S.2.2.1 2 7) (fun a16 => ((∃ fs, sn_oO S a16 9 fs) ∧ wpJ2_size w a16 S (fun (r17 : Int32) => Q r17)))), Q (S.1 2 10), Q v10, Q v11, Q (S.1 0 5), k13, k13, k13, k14, k14, Q (S.1 2 11), k15, k15] (Q (-1)))))) (fun (k12 : Int32 → Int32 → Prop) => sn_lp3 (fun (rc21 : Int32 → Int32 → Int32 → Prop) (i18 : Int32) (i19 : Int32) (i20 : Int32) => ((96 ≤ i20 → k12 i18 i19) ∧ (¬ 96 ≤ i20 → (vp_in i20 96 ∧ sn_jn (fun (v22 : Int32) => sn_lt (i18 + v22) (fun x24 => (vp_in i20 96 ∧ sn_lt (i19 + (S.1 3 (i20).toNatClampNeg)) (fun x25 => rc21 x24 x25 (i20 + 1))))) (fun (k23 : Int32 → Prop) => (((S.1 9 (i20).toNatClampNeg) = 0 → k23 0) ∧ (¬ (S.1 9 (i20).toNatClampNeg) = 0 → k23 1))))))) 0 0 0)
theorem wkX0_count {w : sn_W} {C : sn_C} (hO : sn_Ok LoX w C RX0 cX0_count 5 (some .int) [] "count") (p1 : Int32) (S : sn_S) (Q : Int32 → Prop) : wpX0_count w p1 S Q → sn_G LoX w rmX0_count (sn_qI (fun r S1 => S1 = S ∧ Q r)) sn_noE C 0 0 0 [(0, .ref (w.2.2.1 0)), (1, .int p1)] [] S := by
  unfold wpX0_count
  generalize hQq : (sn_qI (fun r S1 => S1 = S ∧ Q r)) = Qq
  refine sn_iconst hO kc_0 dX0_count_0 ?_
  refine sn_istore_n hO (lv' := [(2, .int 0), (0, .ref (w.2.2.1 0)), (1, .int p1)]) (by decide) rfl dX0_count_1 ?_
  refine sn_iconst hO kc_0 dX0_count_2 ?_
  refine sn_istore_n hO (lv' := [(3, .int 0), (2, .int 0), (0, .ref (w.2.2.1 0)), (1, .int p1)]) (by decide) rfl dX0_count_3 ?_
  refine sn_iconst hO kc_0 dX0_count_4 ?_
  refine sn_istore hO (lv' := [(4, .int 0), (3, .int 0), (2, .int 0), (0, .ref (w.2.2.1 0)), (1, .int p1)]) (by decide) rfl dX0_count_5 ?_
  refine sn_jn_walk (fun (k : Int32 → Int32 → Prop) => ∀ (v10 : Int32) (v11 : Int32), k v10 v11 → sn_G LoX w rmX0_count Qq sn_noE C 0 0 54 [(0, .ref (w.2.2.1 0)), (1, .int p1), (2, .int v10), (3, .int v11)] [] S) ?_ ?_
  · intro v10 v11
    refine sn_iload_n hO 1 rfl dX0_count_54 ?_
    refine sn_jn_walk (fun (k : Prop) => k → sn_G LoX w rmX0_count Qq sn_noE C 0 0 172 [(0, .ref (w.2.2.1 0)), (1, .int p1)] [] S) ?_ ?_
    · refine sn_aload_n hO 0 rfl dX0_count_172 ?_
      refine sn_getF hO fX0_7 atX_0 dX0_count_173 ?_
      refine sn_iload_n hO 1 rfl dX0_count_176 ?_
      refine sn_bipush hO kb_6 dX0_count_177 ?_
      refine sn_isub hO dX0_count_179 ?_
      refine sn_iald hO atX_1 rfl dX0_count_180 ?_
      subst hQq
      exact fun h => sn_iret hO rfl dX0_count_181 ⟨rfl, h⟩
    · intro k13 hk13
      refine sn_jn_walk (fun (k : Prop) => k → sn_G LoX w rmX0_count Qq sn_noE C 0 0 182 [(0, .ref (w.2.2.1 0)), (1, .int p1)] [] S) ?_ ?_
      · refine sn_aload_n hO 0 rfl dX0_count_182 ?_
        refine sn_getF hO fX0_7 atX_0 dX0_count_183 ?_
        refine sn_iload_n hO 1 rfl dX0_count_186 ?_
        refine sn_iconst hO kc_5 dX0_count_187 ?_
        refine sn_isub hO dX0_count_188 ?_
        refine sn_iald hO atX_1 rfl dX0_count_189 ?_
        subst hQq
        exact fun h => sn_iret hO rfl dX0_count_190 ⟨rfl, h⟩
      · intro k14 hk14
        refine sn_jn_walk (fun (k : Prop) => k → sn_G LoX w rmX0_count Qq sn_noE C 0 0 199 [(0, .ref (w.2.2.1 0)), (1, .int p1)] [] S) ?_ ?_
        · refine sn_aload_n hO 0 rfl dX0_count_199 ?_
          refine sn_getF hO fX0_16 atX_0 dX0_count_200 ?_
          refine sn_getFN hO fX0_173 atX_2 dX0_count_203 ?_
          refine sn_iload_n hO 1 rfl dX0_count_206 ?_
          refine sn_bipush hO kb_13 dX0_count_207 ?_
          refine sn_isub hO dX0_count_209 ?_
          refine sn_iald hO atX_7 rfl dX0_count_210 ?_
          subst hQq
          exact fun h => sn_iret hO rfl dX0_count_211 ⟨rfl, h⟩
        · intro k15 hk15
          refine sn_tsw hO [128, 136, 144, 155, 163, 165, 167, 172, 172, 172, 182, 182, 191, 199, 199] 212 (by decide) (by decide) (by decide) dX0_count_55 ?_ ?_
          · refine ⟨?_, ?_, ?_, ?_, ?_, ?_, ?_, ?_, ?_, ?_, ?_, ?_, ?_, ?_, ?_, trivial⟩
            · refine sn_aload_n hO 0 rfl dX0_count_128 ?_
              refine sn_getF hO fX0_16 atX_0 dX0_count_129 ?_
              refine sn_getIN hO fX0_116 atX_2 dX0_count_132 ?_
              subst hQq
              exact fun h => sn_iret hO rfl dX0_count_135 ⟨rfl, h⟩
            · refine sn_aload_n hO 0 rfl dX0_count_136 ?_
              refine sn_getF hO fX0_16 atX_0 dX0_count_137 ?_
              refine sn_getIN hO fX0_161 atX_2 dX0_count_140 ?_
              subst hQq
              exact fun h => sn_iret hO rfl dX0_count_143 ⟨rfl, h⟩
            · refine sn_aload_n hO 0 rfl dX0_count_144 ?_
              refine sn_getF hO fX0_16 atX_0 dX0_count_145 ?_
              refine sn_getQN hO fX0_186 atX_2 dX0_count_148 ?_
              refine sn_deref (fun a16 => ?_)
              refine sn_callV (P := (∃ fs, sn_oO S a16 9 fs) ∧ _) hO (c2 := 0) (s2 := 0) (rm := rmJ2_size) [] cvX0_190 sn_RvP (fun h => ctJ2_size h.2) ⟨Nat.le_of_ble_eq_true rfl, Nat.le_of_ble_eq_true rfl⟩ rfl rfl (Nat.le_of_ble_eq_true rfl) ⟨Nat.le_of_ble_eq_true rfl, Nat.le_of_ble_eq_true rfl, rfl, rfl⟩ dX0_count_151 (sn_bIp (fun r17 => ?_)) sn_x0
              subst hQq
              exact fun h => sn_iret hO rfl dX0_count_154 ⟨rfl, h⟩
            · refine sn_aload_n hO 0 rfl dX0_count_155 ?_
              refine sn_getF hO fX0_16 atX_0 dX0_count_156 ?_
              refine sn_getIN hO fX0_331 atX_2 dX0_count_159 ?_
              subst hQq
              exact fun h => sn_iret hO rfl dX0_count_162 ⟨rfl, h⟩
            · refine sn_iload_n hO 2 rfl dX0_count_163 ?_
              subst hQq
              exact fun h => sn_iret hO rfl dX0_count_164 ⟨rfl, h⟩
            · refine sn_iload_n hO 3 rfl dX0_count_165 ?_
              subst hQq
              exact fun h => sn_iret hO rfl dX0_count_166 ⟨rfl, h⟩
            · refine sn_aload_n hO 0 rfl dX0_count_167 ?_
              refine sn_getI hO fX0_176 atX_0 dX0_count_168 ?_
              subst hQq
              exact fun h => sn_iret hO rfl dX0_count_171 ⟨rfl, h⟩
            · refine sn_sub [0, 1] rfl ?_
              exact hk13
            · refine sn_sub [0, 1] rfl ?_
              exact hk13
            · refine sn_sub [0, 1] rfl ?_
              exact hk13
            · refine sn_sub [0, 1] rfl ?_
              exact hk14
            · refine sn_sub [0, 1] rfl ?_
              exact hk14
            · refine sn_aload_n hO 0 rfl dX0_count_191 ?_
              refine sn_getF hO fX0_16 atX_0 dX0_count_192 ?_
              refine sn_getIN hO fX0_221 atX_2 dX0_count_195 ?_
              subst hQq
              exact fun h => sn_iret hO rfl dX0_count_198 ⟨rfl, h⟩
            · refine sn_sub [0, 1] rfl ?_
              exact hk15
            · refine sn_sub [0, 1] rfl ?_
              exact hk15
          · refine sn_iconst hO kc_m1 dX0_count_212 ?_
            subst hQq
            exact fun h => sn_iret hO rfl dX0_count_213 ⟨rfl, h⟩
  · intro k12 hk12
    refine sn_sub [3, 4, 2, 1, 0] rfl ?_
    refine sn_lp3_walk (Gd := fun (i18 : Int32) (i19 : Int32) (i20 : Int32) => sn_G LoX w rmX0_count Qq sn_noE C 0 0 7 [(0, .ref (w.2.2.1 0)), (1, .int p1), (2, .int i18), (3, .int i19), (4, .int i20)] [] S) ?_ _ _ _
    intro rc21 hrc21 i18 i19 i20
    refine sn_iload hO 4 rfl dX0_count_7 ?_
    refine sn_bipush hO kb_96 dX0_count_9 ?_
    refine sn_icmp_ge hO 54 (by decide) dX0_count_11 ?_ ?_
    · refine sn_sub [0, 1, 2, 3] rfl ?_
      exact hk12 _ _
    · refine sn_iload_n hO 2 rfl dX0_count_14 ?_
      refine sn_aload_n hO 0 rfl dX0_count_15 ?_
      refine sn_getF hO fX0_16 atX_0 dX0_count_16 ?_
      refine sn_getFN hO fX0_150 atX_2 dX0_count_19 ?_
      refine sn_iload hO 4 rfl dX0_count_22 ?_
      refine sn_zald hO atX_9 rfl dX0_count_24 ?_
      refine sn_jn_walk (fun (k : Int32 → Prop) => ∀ (v22 : Int32), k v22 → sn_G LoX w rmX0_count Qq sn_noE C 0 0 33 [(0, .ref (w.2.2.1 0)), (1, .int p1), (3, .int i19), (4, .int i20)] [.int v22, .int i18] S) ?_ ?_
      · intro v22
        refine sn_iadd hO dX0_count_33 ?_
        refine sn_nmI (fun x24 => ?_)
        refine sn_istore_n hO (lv' := [(2, .int x24), (0, .ref (w.2.2.1 0)), (1, .int p1), (3, .int i19), (4, .int i20)]) (by decide) rfl dX0_count_34 ?_
        refine sn_iload_n hO 3 rfl dX0_count_35 ?_
        refine sn_aload_n hO 1 rfl dX0_count_36 ?_
        refine sn_getF hO fX0_16 atX_0 dX0_count_37 ?_
        refine sn_getFN hO fX0_136 atX_2 dX0_count_40 ?_
        refine sn_iload hO 4 rfl dX0_count_43 ?_
        refine sn_iald hO atX_3 rfl dX0_count_45 ?_
        refine sn_iadd hO dX0_count_46 ?_
        refine sn_nmI (fun x25 => ?_)
        refine sn_istore_n hO (lv' := [(3, .int x25), (2, .int x24), (0, .ref (w.2.2.1 0)), (1, .int p1), (4, .int i20)]) (by decide) rfl dX0_count_47 ?_
        refine sn_iinc hO (lv' := [(4, .int (i20 + 1)), (3, .int x25), (2, .int x24), (0, .ref (w.2.2.1 0)), (1, .int p1)]) 4 rfl ki_1 (by decide) rfl dX0_count_48 ?_
        refine sn_goto hO 7 (by decide) dX0_count_51 ?_
        refine sn_sub [3, 4, 2, 1, 0] rfl ?_
        exact hrc21 _ _ _
      · intro k23 hk23
        refine sn_if_eq hO 32 (by decide) dX0_count_25 ?_ ?_
        · refine sn_iconst hO kc_0 dX0_count_32 ?_
          refine sn_sub [0, 1, 3, 4] rfl ?_
          exact hk23 _
        · refine sn_iconst hO kc_1 dX0_count_28 ?_
          refine sn_goto hO 33 (by decide) dX0_count_29 ?_
          refine sn_sub [0, 1, 3, 4] rfl ?_
          exact hk23 _
theorem ctX0_count {w : sn_W} {p1 : Int32} {S : sn_S} {Q : Int32 → Prop} (h : wpX0_count w p1 S Q) : sn_Ct LoX w yX0_count (ws_ yX0_count cX0_count 5 (some .int)) rmX0_count [.ref (w.2.2.1 0), .int p1] S (sn_qI (fun r S1 => S1 = S ∧ Q r)) sn_noE := sn_Ct_of (XX_O w) (by decide) (Nat.le_of_ble_eq_true rfl) RX0 rfl (fun C hO => wkX0_count hO p1 S Q h)
def rmX0_status : Room := { frames := 0, cells := 0, slots := 0, locals := 0 }
/-- SnailPost.status()I -/
def wpX0_status (w : sn_W) (S : sn_S) (Q : Int32 → Prop) : Prop :=
  Q (S.1 0 0)
theorem wkX0_status {w : sn_W} {C : sn_C} (hO : sn_Ok LoX w C RX0 cX0_status 1 (some .int) [] "status") (S : sn_S) (Q : Int32 → Prop) : wpX0_status w S Q → sn_G LoX w rmX0_status (sn_qI (fun r S1 => S1 = S ∧ Q r)) sn_noE C 0 0 0 [(0, .ref (w.2.2.1 0))] [] S := by
  unfold wpX0_status
  generalize hQq : (sn_qI (fun r S1 => S1 = S ∧ Q r)) = Qq
  refine sn_aload_n hO 0 rfl dX0_status_0 ?_
  refine sn_getI hO fX0_97 atX_0 dX0_status_1 ?_
  subst hQq
  exact fun h => sn_iret hO rfl dX0_status_4 ⟨rfl, h⟩
theorem ctX0_status {w : sn_W} {S : sn_S} {Q : Int32 → Prop} (h : wpX0_status w S Q) : sn_Ct LoX w yX0_status (ws_ yX0_status cX0_status 1 (some .int)) rmX0_status [.ref (w.2.2.1 0)] S (sn_qI (fun r S1 => S1 = S ∧ Q r)) sn_noE := sn_Ct_of (XX_O w) (by decide) (Nat.le_of_ble_eq_true rfl) RX0 rfl (fun C hO => wkX0_status hO S Q h)
def rmX4_init (mc ms : Nat) : Room := { frames := 1, cells := mc, slots := ms, locals := 64 }
/-- SnailPost$Walk.<init>(LSnailPost;)V -/
def wpX4_init (w : sn_W) (a0 : Nat) (a1 : Nat) (S : sn_S) (mc : Nat) (ms : Nat) (Q : sn_S → Prop) : Prop :=
  (sn_sV S a0 4 5 (.ref a1) (fun S10 => (sn_nw S10 mc ms 6 (.inl (w.2.1 0, 6, (.inl (fun _ => 0)))) (fun a11 S12 => (sn_sV S12 a0 4 0 (.ref a11) (fun S13 => (sn_nw S13 (mc - 1) (ms - 6) 6 (.inl (w.2.1 0, 6, (.inl (fun _ => 0)))) (fun a14 S15 => (sn_sV S15 a0 4 1 (.ref a14) (fun S16 => (sn_nw S16 ((mc - 1) - 1) ((ms - 6) - 6) 6 (.inl (w.2.1 0, 6, (.inl (fun _ => 0)))) (fun a17 S18 => (sn_sV S18 a0 4 2 (.ref a17) (fun S19 => (sn_nw S19 (((mc - 1) - 1) - 1) (((ms - 6) - 6) - 6) 96 (.inl (w.2.1 0, 96, (.inl (fun _ => 0)))) (fun a20 S21 => (sn_sV S21 a0 4 3 (.ref a20) (fun S22 => Q S22))))))))))))))))))
theorem wkX4_init {w : sn_W} {C : sn_C} {n : Nat} (hO : sn_Ok (LoN n) w C RX4 cX4_init 2 none [] "<init>") (a0 : Nat) (a1 : Nat) (S : sn_S) (mc : Nat) (ms : Nat) (Q : sn_S → Prop) : wpX4_init w a0 a1 S mc ms Q → sn_G (LoN n) w (rmX4_init mc ms) (sn_qV Q) sn_noE C mc ms 0 [(0, .ref a0), (1, .ref a1)] [] S := by
  unfold wpX4_init
  generalize hQq : (sn_qV Q) = Qq
  refine sn_aload_n hO 0 rfl dX4_init_0 ?_
  refine sn_aload_n hO 1 rfl dX4_init_1 ?_
  refine sn_oputF hO (fX4_3 0) (fun _ _ _ h => by cases h; rfl) rfl rfl dX4_init_2 (fun S10 => ?_)
  refine sn_aload_n hO 0 rfl dX4_init_5 ?_
  refine sn_objInit hO q329 q146 q147 ⟨Nat.le_of_ble_eq_true rfl, Nat.le_of_ble_eq_true rfl⟩ dX4_init_6 ?_
  refine sn_aload_n hO 0 rfl dX4_init_9 ?_
  refine sn_bipush hO kb_6 dX4_init_10 ?_
  refine sn_newa (t := 0) (N := 6) hO .int (.inl (fun _ => 0)) q182 rfl rfl (fun _ => rfl) (by decide) (by decide) (Nat.le_of_ble_eq_true rfl) dX4_init_12 (fun a11 S12 => ?_)
  refine sn_oputF hO (fX4_15 0) (fun _ _ _ h => by cases h; rfl) rfl rfl dX4_init_14 (fun S13 => ?_)
  refine sn_aload_n hO 0 rfl dX4_init_17 ?_
  refine sn_bipush hO kb_6 dX4_init_18 ?_
  refine sn_newa (t := 0) (N := 6) hO .int (.inl (fun _ => 0)) q182 rfl rfl (fun _ => rfl) (by decide) (by decide) (Nat.le_of_ble_eq_true rfl) dX4_init_20 (fun a14 S15 => ?_)
  refine sn_oputF hO (fX4_19 0) (fun _ _ _ h => by cases h; rfl) rfl rfl dX4_init_22 (fun S16 => ?_)
  refine sn_aload_n hO 0 rfl dX4_init_25 ?_
  refine sn_bipush hO kb_6 dX4_init_26 ?_
  refine sn_newa (t := 0) (N := 6) hO .int (.inl (fun _ => 0)) q182 rfl rfl (fun _ => rfl) (by decide) (by decide) (Nat.le_of_ble_eq_true rfl) dX4_init_28 (fun a17 S18 => ?_)
  refine sn_oputF hO (fX4_22 0) (fun _ _ _ h => by cases h; rfl) rfl rfl dX4_init_30 (fun S19 => ?_)
  refine sn_aload_n hO 0 rfl dX4_init_33 ?_
  refine sn_bipush hO kb_96 dX4_init_34 ?_
  refine sn_newa (t := 0) (N := 96) hO .int (.inl (fun _ => 0)) q182 rfl rfl (fun _ => rfl) (by decide) (by decide) (Nat.le_of_ble_eq_true rfl) dX4_init_36 (fun a20 S21 => ?_)
  refine sn_oputF hO (fX4_25 0) (fun _ _ _ h => by cases h; rfl) rfl rfl dX4_init_38 (fun S22 => ?_)
  subst hQq
  exact sn_vret hO rfl dX4_init_41
theorem ctX4_init {w : sn_W} {n : Nat} {a0 : Nat} {a1 : Nat} {S : sn_S} {mc : Nat} {ms : Nat} {Q : sn_S → Prop} (h : wpX4_init w a0 a1 S mc ms Q) : sn_Ct (LoN n) w yX4_init (ws_ yX4_init cX4_init 2 none) (rmX4_init mc ms) [.ref a0, .ref a1] S (sn_qV Q) sn_noE := sn_Ct_of (XX_O w) (by decide) (Nat.le_of_ble_eq_true rfl) RX4 rfl (fun C hO => wkX4_init hO a0 a1 S mc ms Q h)
def rmX5_init (mc ms : Nat) : Room := { frames := 2, cells := mc, slots := ms, locals := 85 }
/-- SnailPost$Lantern.<init>(LSnailPost;)V -/
def wpX5_init (w : sn_W) (a0 : Nat) (a1 : Nat) (S : sn_S) (mc : Nat) (ms : Nat) (Q : sn_S → Prop) : Prop :=
  (sn_sV S a0 5 11 (.ref a1) (fun S10 => (¬ (6 : Int32) < 0 ∧ (6 : Int32).toNatClampNeg * 4 ≤ 536870912 ∧ sn_nw S10 mc ms (6 : Int32).toNatClampNeg (.inl (w.2.1 6, (6 : Int32).toNatClampNeg, .inr (.inr (.inr (.inr (fun _ => none)))))) (fun a11 S12 => (sn_nw S12 (mc - 1) (ms - (6 : Int32).toNatClampNeg) 6 (.inr (4, [.null, .null, .null, .null, .int 0, .null])) (fun a13 S14 => (sn_gQ S14 a0 5 11 (fun q15 => (sn_nn q15 (fun a16 => (∃ u17 u18 : Nat, u17 ≤ ((mc - 1) - 1) ∧ u18 ≤ ((ms - (6 : Int32).toNatClampNeg) - 6) ∧ wpX4_init w a13 a16 S14 u17 u18 (fun (S19 : sn_S) => ((∃ fs, sn_oO S19 a13 4 fs) ∧ sn_uQ w S19 a11 6 0 (some a13) (fun S20 => (sn_nw S20 (((mc - 1) - 1) - u17) (((ms - (6 : Int32).toNatClampNeg) - 6) - u18) 6 (.inr (4, [.null, .null, .null, .null, .int 0, .null])) (fun a21 S22 => (sn_gQ S22 a0 5 11 (fun q23 => (sn_nn q23 (fun a24 => (∃ u25 u26 : Nat, u25 ≤ ((((mc - 1) - 1) - u17) - 1) ∧ u26 ≤ ((((ms - (6 : Int32).toNatClampNeg) - 6) - u18) - 6) ∧ wpX4_init w a21 a24 S22 u25 u26 (fun (S27 : sn_S) => ((∃ fs, sn_oO S27 a21 4 fs) ∧ sn_uQ w S27 a11 6 1 (some a21) (fun S28 => (sn_nw S28 (((((mc - 1) - 1) - u17) - 1) - u25) (((((ms - (6 : Int32).toNatClampNeg) - 6) - u18) - 6) - u26) 6 (.inr (4, [.null, .null, .null, .null, .int 0, .null])) (fun a29 S30 => (sn_gQ S30 a0 5 11 (fun q31 => (sn_nn q31 (fun a32 => (∃ u33 u34 : Nat, u33 ≤ ((((((mc - 1) - 1) - u17) - 1) - u25) - 1) ∧ u34 ≤ ((((((ms - (6 : Int32).toNatClampNeg) - 6) - u18) - 6) - u26) - 6) ∧ wpX4_init w a29 a32 S30 u33 u34 (fun (S35 : sn_S) => ((∃ fs, sn_oO S35 a29 4 fs) ∧ sn_uQ w S35 a11 6 2 (some a29) (fun S36 => (sn_nw S36 (((((((mc - 1) - 1) - u17) - 1) - u25) - 1) - u33) (((((((ms - (6 : Int32).toNatClampNeg) - 6) - u18) - 6) - u26) - 6) - u34) 6 (.inr (4, [.null, .null, .null, .null, .int 0, .null])) (fun a37 S38 => (sn_gQ S38 a0 5 11 (fun q39 => (sn_nn q39 (fun a40 => (∃ u41 u42 : Nat, u41 ≤ ((((((((mc - 1) - 1) - u17) - 1) - u25) - 1) - u33) - 1) ∧ u42 ≤ ((((((((ms - (6 : Int32).toNatClampNeg) - 6) - u18) - 6) - u26) - 6) - u34) - 6) ∧ wpX4_init w a37 a40 S38 u41 u42 (fun (S43 : sn_S) => ((∃ fs, sn_oO S43 a37 4 fs) ∧ sn_uQ w S43 a11 6 3 (some a37) (fun S44 => (sn_nw S44 (((((((((mc - 1) - 1) - u17) - 1) - u25) - 1) - u33) - 1) - u41) (((((((((ms - (6 : Int32).toNatClampNeg) - 6) - u18) - 6) - u26) - 6) - u34) - 6) - u42) 6 (.inr (4, [.null, .null, .null, .null, .int 0, .null])) (fun a45 S46 => (sn_gQ S46 a0 5 11 (fun q47 => (sn_nn q47 (fun a48 => (∃ u49 u50 : Nat, u49 ≤ ((((((((((mc - 1) - 1) - u17) - 1) - u25) - 1) - u33) - 1) - u41) - 1) ∧ u50 ≤ ((((((((((ms - (6 : Int32).toNatClampNeg) - 6) - u18) - 6) - u26) - 6) - u34) - 6) - u42) - 6) ∧ wpX4_init w a45 a48 S46 u49 u50 (fun (S51 : sn_S) => ((∃ fs, sn_oO S51 a45 4 fs) ∧ sn_uQ w S51 a11 6 4 (some a45) (fun S52 => (sn_nw S52 (((((((((((mc - 1) - 1) - u17) - 1) - u25) - 1) - u33) - 1) - u41) - 1) - u49) (((((((((((ms - (6 : Int32).toNatClampNeg) - 6) - u18) - 6) - u26) - 6) - u34) - 6) - u42) - 6) - u50) 6 (.inr (4, [.null, .null, .null, .null, .int 0, .null])) (fun a53 S54 => (sn_gQ S54 a0 5 11 (fun q55 => (sn_nn q55 (fun a56 => (∃ u57 u58 : Nat, u57 ≤ ((((((((((((mc - 1) - 1) - u17) - 1) - u25) - 1) - u33) - 1) - u41) - 1) - u49) - 1) ∧ u58 ≤ ((((((((((((ms - (6 : Int32).toNatClampNeg) - 6) - u18) - 6) - u26) - 6) - u34) - 6) - u42) - 6) - u50) - 6) ∧ wpX4_init w a53 a56 S54 u57 u58 (fun (S59 : sn_S) => ((∃ fs, sn_oO S59 a53 4 fs) ∧ sn_uQ w S59 a11 6 5 (some a53) (fun S60 => (sn_sV S60 a0 5 0 (.ref a11) (fun S61 => (sn_nw S61 (((((((((((((mc - 1) - 1) - u17) - 1) - u25) - 1) - u33) - 1) - u41) - 1) - u49) - 1) - u57) (((((((((((((ms - (6 : Int32).toNatClampNeg) - 6) - u18) - 6) - u26) - 6) - u34) - 6) - u42) - 6) - u50) - 6) - u58) 5 (.inl (w.2.1 0, 5, (.inl (fun _ => 0)))) (fun a62 S63 => (sn_sV S63 a0 5 1 (.ref a62) (fun S64 => (sn_nw S64 ((((((((((((((mc - 1) - 1) - u17) - 1) - u25) - 1) - u33) - 1) - u41) - 1) - u49) - 1) - u57) - 1) ((((((((((((((ms - (6 : Int32).toNatClampNeg) - 6) - u18) - 6) - u26) - 6) - u34) - 6) - u42) - 6) - u50) - 6) - u58) - 5) 5 (.inl (w.2.1 0, 5, (.inl (fun _ => 0)))) (fun a65 S66 => (sn_sV S66 a0 5 2 (.ref a65) (fun S67 => (sn_sV S67 a0 5 3 (.int (-1)) (fun S68 => Q S68))))))))))))))))))))))))))))))))))))))))))))))))))))))))))))))))))))))))))))
theorem wkX5_init {w : sn_W} {C : sn_C} {n : Nat} (hO : sn_Ok (LoN n) w C RX5 cX5_init 2 none [] "<init>") (a0 : Nat) (a1 : Nat) (S : sn_S) (mc : Nat) (ms : Nat) (Q : sn_S → Prop) : wpX5_init w a0 a1 S mc ms Q → sn_G (LoN n) w (rmX5_init mc ms) (sn_qV Q) sn_noE C mc ms 0 [(0, .ref a0), (1, .ref a1)] [] S := by
  unfold wpX5_init
  generalize hQq : (sn_qV Q) = Qq
  refine sn_aload_n hO 0 rfl dX5_init_0 ?_
  refine sn_aload_n hO 1 rfl dX5_init_1 ?_
  refine sn_oputF hO (fX5_3 0) (fun _ _ _ h => by cases h; rfl) rfl rfl dX5_init_2 (fun S10 => ?_)
  refine sn_aload_n hO 0 rfl dX5_init_5 ?_
  refine sn_objInit hO q361 q146 q147 ⟨Nat.le_of_ble_eq_true rfl, Nat.le_of_ble_eq_true rfl⟩ dX5_init_6 ?_
  refine sn_aload_n hO 0 rfl dX5_init_9 ?_
  refine sn_bipush hO kb_6 dX5_init_10 ?_
  refine sn_newq (t := 6) hO q362 aoX_6 rfl dX5_init_12 (fun a11 S12 => ?_)
  refine sn_dup hO rfl dX5_init_15 ?_
  refine sn_iconst hO kc_0 dX5_init_16 ?_
  refine sn_new (fs := [.null, .null, .null, .null, .int 0, .null]) hO tyX4 in_X4 tyX4_ok q362 q325 q112 rfl nfX_4 dX5_init_17 (fun a13 S14 => ?_)
  refine sn_dup hO rfl dX5_init_20 ?_
  refine sn_aload_n hO 0 rfl dX5_init_21 ?_
  refine sn_ogetQ hO (fX5_3 0) dX5_init_22 (fun q15 => ?_)
  refine sn_deref (fun a16 => ?_)
  refine sn_bud (fun u17 u18 hu17 hu18 => ?_)
  refine sn_callIN (rY := none) hO (c2 := (((mc - 1) - 1) - u17)) (s2 := (((ms - (6 : Int32).toNatClampNeg) - 6) - u18)) (rm := (rmX4_init u17 u18)) [.ref a16] ciX5_17 (fun h => ctX4_init h) ⟨Nat.le_of_ble_eq_true rfl, Nat.le_of_ble_eq_true rfl⟩ rfl rfl (Nat.le_of_ble_eq_true rfl) ⟨hu17, hu18, rfl, rfl⟩ dX5_init_25 (sn_bV (fun S19 => ?_)) sn_x0
  refine sn_oastE (ci := 4) hO rfl rfl dX5_init_28 (fun S20 => ?_)
  refine sn_dup hO rfl dX5_init_29 ?_
  refine sn_iconst hO kc_1 dX5_init_30 ?_
  refine sn_new (fs := [.null, .null, .null, .null, .int 0, .null]) hO tyX4 in_X4 tyX4_ok q362 q325 q112 rfl nfX_4 dX5_init_31 (fun a21 S22 => ?_)
  refine sn_dup hO rfl dX5_init_34 ?_
  refine sn_aload_n hO 0 rfl dX5_init_35 ?_
  refine sn_ogetQ hO (fX5_3 0) dX5_init_36 (fun q23 => ?_)
  refine sn_deref (fun a24 => ?_)
  refine sn_bud (fun u25 u26 hu25 hu26 => ?_)
  refine sn_callIN (rY := none) hO (c2 := (((((mc - 1) - 1) - u17) - 1) - u25)) (s2 := (((((ms - (6 : Int32).toNatClampNeg) - 6) - u18) - 6) - u26)) (rm := (rmX4_init u25 u26)) [.ref a24] ciX5_17 (fun h => ctX4_init h) ⟨Nat.le_of_ble_eq_true rfl, Nat.le_of_ble_eq_true rfl⟩ rfl rfl (Nat.le_of_ble_eq_true rfl) ⟨hu25, hu26, rfl, rfl⟩ dX5_init_39 (sn_bV (fun S27 => ?_)) sn_x0
  refine sn_oastE (ci := 4) hO rfl rfl dX5_init_42 (fun S28 => ?_)
  refine sn_dup hO rfl dX5_init_43 ?_
  refine sn_iconst hO kc_2 dX5_init_44 ?_
  refine sn_new (fs := [.null, .null, .null, .null, .int 0, .null]) hO tyX4 in_X4 tyX4_ok q362 q325 q112 rfl nfX_4 dX5_init_45 (fun a29 S30 => ?_)
  refine sn_dup hO rfl dX5_init_48 ?_
  refine sn_aload_n hO 0 rfl dX5_init_49 ?_
  refine sn_ogetQ hO (fX5_3 0) dX5_init_50 (fun q31 => ?_)
  refine sn_deref (fun a32 => ?_)
  refine sn_bud (fun u33 u34 hu33 hu34 => ?_)
  refine sn_callIN (rY := none) hO (c2 := (((((((mc - 1) - 1) - u17) - 1) - u25) - 1) - u33)) (s2 := (((((((ms - (6 : Int32).toNatClampNeg) - 6) - u18) - 6) - u26) - 6) - u34)) (rm := (rmX4_init u33 u34)) [.ref a32] ciX5_17 (fun h => ctX4_init h) ⟨Nat.le_of_ble_eq_true rfl, Nat.le_of_ble_eq_true rfl⟩ rfl rfl (Nat.le_of_ble_eq_true rfl) ⟨hu33, hu34, rfl, rfl⟩ dX5_init_53 (sn_bV (fun S35 => ?_)) sn_x0
  refine sn_oastE (ci := 4) hO rfl rfl dX5_init_56 (fun S36 => ?_)
  refine sn_dup hO rfl dX5_init_57 ?_
  refine sn_iconst hO kc_3 dX5_init_58 ?_
  refine sn_new (fs := [.null, .null, .null, .null, .int 0, .null]) hO tyX4 in_X4 tyX4_ok q362 q325 q112 rfl nfX_4 dX5_init_59 (fun a37 S38 => ?_)
  refine sn_dup hO rfl dX5_init_62 ?_
  refine sn_aload_n hO 0 rfl dX5_init_63 ?_
  refine sn_ogetQ hO (fX5_3 0) dX5_init_64 (fun q39 => ?_)
  refine sn_deref (fun a40 => ?_)
  refine sn_bud (fun u41 u42 hu41 hu42 => ?_)
  refine sn_callIN (rY := none) hO (c2 := (((((((((mc - 1) - 1) - u17) - 1) - u25) - 1) - u33) - 1) - u41)) (s2 := (((((((((ms - (6 : Int32).toNatClampNeg) - 6) - u18) - 6) - u26) - 6) - u34) - 6) - u42)) (rm := (rmX4_init u41 u42)) [.ref a40] ciX5_17 (fun h => ctX4_init h) ⟨Nat.le_of_ble_eq_true rfl, Nat.le_of_ble_eq_true rfl⟩ rfl rfl (Nat.le_of_ble_eq_true rfl) ⟨hu41, hu42, rfl, rfl⟩ dX5_init_67 (sn_bV (fun S43 => ?_)) sn_x0
  refine sn_oastE (ci := 4) hO rfl rfl dX5_init_70 (fun S44 => ?_)
  refine sn_dup hO rfl dX5_init_71 ?_
  refine sn_iconst hO kc_4 dX5_init_72 ?_
  refine sn_new (fs := [.null, .null, .null, .null, .int 0, .null]) hO tyX4 in_X4 tyX4_ok q362 q325 q112 rfl nfX_4 dX5_init_73 (fun a45 S46 => ?_)
  refine sn_dup hO rfl dX5_init_76 ?_
  refine sn_aload_n hO 0 rfl dX5_init_77 ?_
  refine sn_ogetQ hO (fX5_3 0) dX5_init_78 (fun q47 => ?_)
  refine sn_deref (fun a48 => ?_)
  refine sn_bud (fun u49 u50 hu49 hu50 => ?_)
  refine sn_callIN (rY := none) hO (c2 := (((((((((((mc - 1) - 1) - u17) - 1) - u25) - 1) - u33) - 1) - u41) - 1) - u49)) (s2 := (((((((((((ms - (6 : Int32).toNatClampNeg) - 6) - u18) - 6) - u26) - 6) - u34) - 6) - u42) - 6) - u50)) (rm := (rmX4_init u49 u50)) [.ref a48] ciX5_17 (fun h => ctX4_init h) ⟨Nat.le_of_ble_eq_true rfl, Nat.le_of_ble_eq_true rfl⟩ rfl rfl (Nat.le_of_ble_eq_true rfl) ⟨hu49, hu50, rfl, rfl⟩ dX5_init_81 (sn_bV (fun S51 => ?_)) sn_x0
  refine sn_oastE (ci := 4) hO rfl rfl dX5_init_84 (fun S52 => ?_)
  refine sn_dup hO rfl dX5_init_85 ?_
  refine sn_iconst hO kc_5 dX5_init_86 ?_
  refine sn_new (fs := [.null, .null, .null, .null, .int 0, .null]) hO tyX4 in_X4 tyX4_ok q362 q325 q112 rfl nfX_4 dX5_init_87 (fun a53 S54 => ?_)
  refine sn_dup hO rfl dX5_init_90 ?_
  refine sn_aload_n hO 0 rfl dX5_init_91 ?_
  refine sn_ogetQ hO (fX5_3 0) dX5_init_92 (fun q55 => ?_)
  refine sn_deref (fun a56 => ?_)
  refine sn_bud (fun u57 u58 hu57 hu58 => ?_)
  refine sn_callIN (rY := none) hO (c2 := (((((((((((((mc - 1) - 1) - u17) - 1) - u25) - 1) - u33) - 1) - u41) - 1) - u49) - 1) - u57)) (s2 := (((((((((((((ms - (6 : Int32).toNatClampNeg) - 6) - u18) - 6) - u26) - 6) - u34) - 6) - u42) - 6) - u50) - 6) - u58)) (rm := (rmX4_init u57 u58)) [.ref a56] ciX5_17 (fun h => ctX4_init h) ⟨Nat.le_of_ble_eq_true rfl, Nat.le_of_ble_eq_true rfl⟩ rfl rfl (Nat.le_of_ble_eq_true rfl) ⟨hu57, hu58, rfl, rfl⟩ dX5_init_95 (sn_bV (fun S59 => ?_)) sn_x0
  refine sn_oastE (ci := 4) hO rfl rfl dX5_init_98 (fun S60 => ?_)
  refine sn_oputF hO (fX5_20 0) (fun _ _ _ h => by cases h; rfl) rfl rfl dX5_init_99 (fun S61 => ?_)
  refine sn_aload_n hO 0 rfl dX5_init_102 ?_
  refine sn_iconst hO kc_5 dX5_init_103 ?_
  refine sn_newa (t := 0) (N := 5) hO .int (.inl (fun _ => 0)) q182 rfl rfl (fun _ => rfl) (by decide) (by decide) (Nat.le_of_ble_eq_true rfl) dX5_init_104 (fun a62 S63 => ?_)
  refine sn_oputF hO (fX5_24 0) (fun _ _ _ h => by cases h; rfl) rfl rfl dX5_init_106 (fun S64 => ?_)
  refine sn_aload_n hO 0 rfl dX5_init_109 ?_
  refine sn_iconst hO kc_5 dX5_init_110 ?_
  refine sn_newa (t := 0) (N := 5) hO .int (.inl (fun _ => 0)) q182 rfl rfl (fun _ => rfl) (by decide) (by decide) (Nat.le_of_ble_eq_true rfl) dX5_init_111 (fun a65 S66 => ?_)
  refine sn_oputF hO (fX5_28 0) (fun _ _ _ h => by cases h; rfl) rfl rfl dX5_init_113 (fun S67 => ?_)
  refine sn_aload_n hO 0 rfl dX5_init_116 ?_
  refine sn_iconst hO kc_m1 dX5_init_117 ?_
  refine sn_oput hO (fX5_31 0) rfl rfl dX5_init_118 (fun S68 => ?_)
  subst hQq
  exact sn_vret hO rfl dX5_init_121
theorem ctX5_init {w : sn_W} {n : Nat} {a0 : Nat} {a1 : Nat} {S : sn_S} {mc : Nat} {ms : Nat} {Q : sn_S → Prop} (h : wpX5_init w a0 a1 S mc ms Q) : sn_Ct (LoN n) w yX5_init (ws_ yX5_init cX5_init 2 none) (rmX5_init mc ms) [.ref a0, .ref a1] S (sn_qV Q) sn_noE := sn_Ct_of (XX_O w) (by decide) (Nat.le_of_ble_eq_true rfl) RX5 rfl (fun C hO => wkX5_init hO a0 a1 S mc ms Q h)
def rmX6_init (mc ms : Nat) : Room := { frames := 1, cells := mc, slots := ms, locals := 64 }
/-- SnailPost$Span.<init>()V -/
def wpX6_init (w : sn_W) (a0 : Nat) (S : sn_S) (mc : Nat) (ms : Nat) (Q : sn_S → Prop) : Prop :=
  (sn_nw S mc ms 6 (.inl (w.2.1 0, 6, (.inl (fun _ => 0)))) (fun a10 S11 => (sn_sV S11 a0 6 0 (.ref a10) (fun S12 => Q S12))))
theorem wkX6_init {w : sn_W} {C : sn_C} {n : Nat} (hO : sn_Ok (LoN n) w C RX6 cX6_init 1 none [] "<init>") (a0 : Nat) (S : sn_S) (mc : Nat) (ms : Nat) (Q : sn_S → Prop) : wpX6_init w a0 S mc ms Q → sn_G (LoN n) w (rmX6_init mc ms) (sn_qV Q) sn_noE C mc ms 0 [(0, .ref a0)] [] S := by
  unfold wpX6_init
  generalize hQq : (sn_qV Q) = Qq
  refine sn_aload_n hO 0 rfl dX6_init_0 ?_
  refine sn_objInit hO q413 q146 q147 ⟨Nat.le_of_ble_eq_true rfl, Nat.le_of_ble_eq_true rfl⟩ dX6_init_1 ?_
  refine sn_aload_n hO 0 rfl dX6_init_4 ?_
  refine sn_bipush hO kb_6 dX6_init_5 ?_
  refine sn_newa (t := 0) (N := 6) hO .int (.inl (fun _ => 0)) q182 rfl rfl (fun _ => rfl) (by decide) (by decide) (Nat.le_of_ble_eq_true rfl) dX6_init_7 (fun a10 S11 => ?_)
  refine sn_oputF hO fX6_9 (fun _ _ _ h => by cases h; rfl) rfl rfl dX6_init_9 (fun S12 => ?_)
  subst hQq
  exact sn_vret hO rfl dX6_init_12
theorem ctX6_init {w : sn_W} {n : Nat} {a0 : Nat} {S : sn_S} {mc : Nat} {ms : Nat} {Q : sn_S → Prop} (h : wpX6_init w a0 S mc ms Q) : sn_Ct (LoN n) w yX6_init (ws_ yX6_init cX6_init 1 none) (rmX6_init mc ms) [.ref a0] S (sn_qV Q) sn_noE := sn_Ct_of (XX_O w) (by decide) (Nat.le_of_ble_eq_true rfl) RX6 rfl (fun C hO => wkX6_init hO a0 S mc ms Q h)
def rmX7_init (mc ms : Nat) : Room := { frames := 1, cells := mc, slots := ms, locals := 64 }
/-- SnailPost$Shells.<init>(LSnailPost;)V -/
def wpX7_init (w : sn_W) (a0 : Nat) (a1 : Nat) (S : sn_S) (mc : Nat) (ms : Nat) (Q : sn_S → Prop) : Prop :=
  (sn_sV S a0 7 5 (.ref a1) (fun S10 => (sn_nw S10 mc ms 6 (.inl (w.2.1 0, 6, (.inl (fun _ => 0)))) (fun a11 S12 => (sn_sV S12 a0 7 0 (.ref a11) (fun S13 => Q S13))))))
theorem wkX7_init {w : sn_W} {C : sn_C} {n : Nat} (hO : sn_Ok (LoN n) w C RX7 cX7_init 2 none [] "<init>") (a0 : Nat) (a1 : Nat) (S : sn_S) (mc : Nat) (ms : Nat) (Q : sn_S → Prop) : wpX7_init w a0 a1 S mc ms Q → sn_G (LoN n) w (rmX7_init mc ms) (sn_qV Q) sn_noE C mc ms 0 [(0, .ref a0), (1, .ref a1)] [] S := by
  unfold wpX7_init
  generalize hQq : (sn_qV Q) = Qq
  refine sn_aload_n hO 0 rfl dX7_init_0 ?_
  refine sn_aload_n hO 1 rfl dX7_init_1 ?_
  refine sn_oputF hO fX7_3 (fun _ _ _ h => by cases h; rfl) rfl rfl dX7_init_2 (fun S10 => ?_)
  refine sn_aload_n hO 0 rfl dX7_init_5 ?_
  refine sn_objInit hO q423 q146 q147 ⟨Nat.le_of_ble_eq_true rfl, Nat.le_of_ble_eq_true rfl⟩ dX7_init_6 ?_
  refine sn_aload_n hO 0 rfl dX7_init_9 ?_
  refine sn_bipush hO kb_6 dX7_init_10 ?_
  refine sn_newa (t := 0) (N := 6) hO .int (.inl (fun _ => 0)) q182 rfl rfl (fun _ => rfl) (by decide) (by decide) (Nat.le_of_ble_eq_true rfl) dX7_init_12 (fun a11 S12 => ?_)
  refine sn_oputF hO fX7_15 (fun _ _ _ h => by cases h; rfl) rfl rfl dX7_init_14 (fun S13 => ?_)
  subst hQq
  exact sn_vret hO rfl dX7_init_17
theorem ctX7_init {w : sn_W} {n : Nat} {a0 : Nat} {a1 : Nat} {S : sn_S} {mc : Nat} {ms : Nat} {Q : sn_S → Prop} (h : wpX7_init w a0 a1 S mc ms Q) : sn_Ct (LoN n) w yX7_init (ws_ yX7_init cX7_init 2 none) (rmX7_init mc ms) [.ref a0, .ref a1] S (sn_qV Q) sn_noE := sn_Ct_of (XX_O w) (by decide) (Nat.le_of_ble_eq_true rfl) RX7 rfl (fun C hO => wkX7_init hO a0 a1 S mc ms Q h)
def rmX8_init (mc ms : Nat) : Room := { frames := 1, cells := mc, slots := ms, locals := 64 }
/-- SnailPost$Orders.<init>(LSnailPost;)V -/
def wpX8_init (w : sn_W) (a0 : Nat) (a1 : Nat) (S : sn_S) (mc : Nat) (ms : Nat) (Q : sn_S → Prop) : Prop :=
  (sn_sV S a0 8 7 (.ref a1) (fun S10 => (sn_nw S10 mc ms 6 (.inl (w.2.1 0, 6, (.inl (fun _ => 0)))) (fun a11 S12 => (sn_sV S12 a0 8 0 (.ref a11) (fun S13 => (sn_nw S13 (mc - 1) (ms - 6) 6 (.inl (w.2.1 0, 6, (.inl (fun _ => 0)))) (fun a14 S15 => (sn_sV S15 a0 8 1 (.ref a14) (fun S16 => (sn_nw S16 ((mc - 1) - 1) ((ms - 6) - 6) 36 (.inl (w.2.1 0, 36, (.inl (fun _ => 0)))) (fun a17 S18 => (sn_sV S18 a0 8 2 (.ref a17) (fun S19 => (sn_sV S19 a0 8 3 (.int (-1)) (fun S20 => Q S20))))))))))))))))
theorem wkX8_init {w : sn_W} {C : sn_C} {n : Nat} (hO : sn_Ok (LoN n) w C RX8 cX8_init 2 none [] "<init>") (a0 : Nat) (a1 : Nat) (S : sn_S) (mc : Nat) (ms : Nat) (Q : sn_S → Prop) : wpX8_init w a0 a1 S mc ms Q → sn_G (LoN n) w (rmX8_init mc ms) (sn_qV Q) sn_noE C mc ms 0 [(0, .ref a0), (1, .ref a1)] [] S := by
  unfold wpX8_init
  generalize hQq : (sn_qV Q) = Qq
  refine sn_aload_n hO 0 rfl dX8_init_0 ?_
  refine sn_aload_n hO 1 rfl dX8_init_1 ?_
  refine sn_oputF hO fX8_3 (fun _ _ _ h => by cases h; rfl) rfl rfl dX8_init_2 (fun S10 => ?_)
  refine sn_aload_n hO 0 rfl dX8_init_5 ?_
  refine sn_objInit hO q450 q146 q147 ⟨Nat.le_of_ble_eq_true rfl, Nat.le_of_ble_eq_true rfl⟩ dX8_init_6 ?_
  refine sn_aload_n hO 0 rfl dX8_init_9 ?_
  refine sn_bipush hO kb_6 dX8_init_10 ?_
  refine sn_newa (t := 0) (N := 6) hO .int (.inl (fun _ => 0)) q182 rfl rfl (fun _ => rfl) (by decide) (by decide) (Nat.le_of_ble_eq_true rfl) dX8_init_12 (fun a11 S12 => ?_)
  refine sn_oputF hO fX8_15 (fun _ _ _ h => by cases h; rfl) rfl rfl dX8_init_14 (fun S13 => ?_)
  refine sn_aload_n hO 0 rfl dX8_init_17 ?_
  refine sn_bipush hO kb_6 dX8_init_18 ?_
  refine sn_newa (t := 0) (N := 6) hO .int (.inl (fun _ => 0)) q182 rfl rfl (fun _ => rfl) (by decide) (by decide) (Nat.le_of_ble_eq_true rfl) dX8_init_20 (fun a14 S15 => ?_)
  refine sn_oputF hO fX8_19 (fun _ _ _ h => by cases h; rfl) rfl rfl dX8_init_22 (fun S16 => ?_)
  refine sn_aload_n hO 0 rfl dX8_init_25 ?_
  refine sn_bipush hO kb_36 dX8_init_26 ?_
  refine sn_newa (t := 0) (N := 36) hO .int (.inl (fun _ => 0)) q182 rfl rfl (fun _ => rfl) (by decide) (by decide) (Nat.le_of_ble_eq_true rfl) dX8_init_28 (fun a17 S18 => ?_)
  refine sn_oputF hO fX8_22 (fun _ _ _ h => by cases h; rfl) rfl rfl dX8_init_30 (fun S19 => ?_)
  refine sn_aload_n hO 0 rfl dX8_init_33 ?_
  refine sn_iconst hO kc_m1 dX8_init_34 ?_
  refine sn_oput hO fX8_25 rfl rfl dX8_init_35 (fun S20 => ?_)
  subst hQq
  exact sn_vret hO rfl dX8_init_38
theorem ctX8_init {w : sn_W} {n : Nat} {a0 : Nat} {a1 : Nat} {S : sn_S} {mc : Nat} {ms : Nat} {Q : sn_S → Prop} (h : wpX8_init w a0 a1 S mc ms Q) : sn_Ct (LoN n) w yX8_init (ws_ yX8_init cX8_init 2 none) (rmX8_init mc ms) [.ref a0, .ref a1] S (sn_qV Q) sn_noE := sn_Ct_of (XX_O w) (by decide) (Nat.le_of_ble_eq_true rfl) RX8 rfl (fun C hO => wkX8_init hO a0 a1 S mc ms Q h)
def rmX3_init : Room := { frames := 3, cells := 0, slots := 0, locals := 112 }
/-- SnailPost$Broken.<init>()V -/
def wpX3_init (w : sn_W) (a0 : Nat) (S : sn_S) (Q : sn_S → Prop) : Prop :=
  wpJ4_init_3 w a0 0 0 S (fun (S10 : sn_S) => Q S10)
theorem wkX3_init {w : sn_W} {C : sn_C} {n : Nat} (hO : sn_Ok (LoN n) w C RX3 cX3_init 1 none [] "<init>") (a0 : Nat) (S : sn_S) (Q : sn_S → Prop) : wpX3_init w a0 S Q → sn_G (LoN n) w rmX3_init (sn_qV Q) sn_noE C 0 0 0 [(0, .ref a0)] [] S := by
  unfold wpX3_init
  generalize hQq : (sn_qV Q) = Qq
  refine sn_aload_n hO 0 rfl dX3_init_0 ?_
  refine sn_null hO dX3_init_1 ?_
  refine sn_null hO dX3_init_2 ?_
  refine sn_iconst hO kc_0 dX3_init_3 ?_
  refine sn_iconst hO kc_0 dX3_init_4 ?_
  refine sn_callI (rY := none) hO (c2 := 0) (s2 := 0) (rm := rmJ4_init_3) [.null, .null, .int 0, .int 0] ciX3_1 (fun h => ctJ4_init_3 h) ⟨Nat.le_of_ble_eq_true rfl, Nat.le_of_ble_eq_true rfl⟩ rfl rfl (Nat.le_of_ble_eq_true rfl) ⟨Nat.le_of_ble_eq_true rfl, Nat.le_of_ble_eq_true rfl, rfl, rfl⟩ dX3_init_5 (sn_bV (fun S10 => ?_)) sn_x0
  subst hQq
  exact sn_vret hO rfl dX3_init_8
theorem ctX3_init {w : sn_W} {n : Nat} {a0 : Nat} {S : sn_S} {Q : sn_S → Prop} (h : wpX3_init w a0 S Q) : sn_Ct (LoN n) w yX3_init (ws_ yX3_init cX3_init 1 none) rmX3_init [.ref a0] S (sn_qV Q) sn_noE := sn_Ct_of (XX_O w) (by decide) (Nat.le_of_ble_eq_true rfl) RX3 rfl (fun C hO => wkX3_init hO a0 S Q h)
def rmX2_init (mc ms : Nat) : Room := { frames := 4, cells := mc, slots := ms, locals := 132 }
/-- SnailPost$Setting.<init>()V -/
def wpX2_init (w : sn_W) (a0 : Nat) (S : sn_S) (mc : Nat) (ms : Nat) (Q : sn_S → Prop) : Prop :=
  (sn_nw S mc ms 6 (.inr (3, [.null, .null, .null, .null, .null, .int 0])) (fun a10 S11 => wpX3_init w a10 S11 (fun (S12 : sn_S) => (sn_sV S12 a0 2 0 (.ref a10) (fun S13 => (sn_nw S13 (mc - 1) (ms - 6) 10 (.inl (w.2.1 3, 10, (.inr (.inl (fun _ => 0))))) (fun a14 S15 => (sn_sV S15 a0 2 1 (.ref a14) (fun S16 => Q S16)))))))))
theorem wkX2_init {w : sn_W} {C : sn_C} {n : Nat} (hO : sn_Ok (LoN n) w C RX2 cX2_init 1 none [] "<init>") (a0 : Nat) (S : sn_S) (mc : Nat) (ms : Nat) (Q : sn_S → Prop) : wpX2_init w a0 S mc ms Q → sn_G (LoN n) w (rmX2_init mc ms) (sn_qV Q) sn_noE C mc ms 0 [(0, .ref a0)] [] S := by
  unfold wpX2_init
  generalize hQq : (sn_qV Q) = Qq
  refine sn_aload_n hO 0 rfl dX2_init_0 ?_
  refine sn_objInit hO q251 q146 q147 ⟨Nat.le_of_ble_eq_true rfl, Nat.le_of_ble_eq_true rfl⟩ dX2_init_1 ?_
  refine sn_aload_n hO 0 rfl dX2_init_4 ?_
  refine sn_new (fs := [.null, .null, .null, .null, .null, .int 0]) hO tyX3 in_X3 tyX3_ok q252 q253 q111 rfl nfX_3 dX2_init_5 (fun a10 S11 => ?_)
  refine sn_dup hO rfl dX2_init_8 ?_
  refine sn_callI (rY := none) hO (c2 := (mc - 1)) (s2 := (ms - 6)) (rm := rmX3_init) [] ciX2_11 (fun h => ctX3_init h) ⟨Nat.le_of_ble_eq_true rfl, Nat.le_of_ble_eq_true rfl⟩ rfl rfl (Nat.le_of_ble_eq_true rfl) ⟨Nat.zero_le _, Nat.zero_le _, rfl, rfl⟩ dX2_init_9 (sn_bV (fun S12 => ?_)) sn_x0
  refine sn_oputF hO fX2_12 (fun _ _ _ h => by cases h; rfl) rfl rfl dX2_init_12 (fun S13 => ?_)
  refine sn_aload_n hO 0 rfl dX2_init_15 ?_
  refine sn_bipush hO kb_10 dX2_init_16 ?_
  refine sn_newa (t := 3) (N := 10) hO .long (.inr (.inl (fun _ => 0))) q323 rfl rfl (fun _ => rfl) (by decide) (by decide) (Nat.le_of_ble_eq_true rfl) dX2_init_18 (fun a14 S15 => ?_)
  refine sn_oputF hO fX2_18 (fun _ _ _ h => by cases h; rfl) rfl rfl dX2_init_20 (fun S16 => ?_)
  subst hQq
  exact sn_vret hO rfl dX2_init_23
theorem ctX2_init {w : sn_W} {n : Nat} {a0 : Nat} {S : sn_S} {mc : Nat} {ms : Nat} {Q : sn_S → Prop} (h : wpX2_init w a0 S mc ms Q) : sn_Ct (LoN n) w yX2_init (ws_ yX2_init cX2_init 1 none) (rmX2_init mc ms) [.ref a0] S (sn_qV Q) sn_noE := sn_Ct_of (XX_O w) (by decide) (Nat.le_of_ble_eq_true rfl) RX2 rfl (fun C hO => wkX2_init hO a0 S mc ms Q h)
def rmX0_init (mc ms : Nat) : Room := { frames := 5, cells := mc, slots := ms, locals := 152 }
/-- SnailPost.<init>()V -/
def wpX0_init (w : sn_W) (a0 : Nat) (S : sn_S) (mc : Nat) (ms : Nat) (Q : sn_S → Prop) : Prop :=
  (sn_nw S mc ms 7 (.inl (w.2.1 0, 7, (.inl (fun _ => 0)))) (fun a10 S11 => (sn_sV S11 a0 0 1 (.ref a10) (fun S12 => (sn_nw S12 (mc - 1) (ms - 7) 12 (.inr (1, [.null, .null, .null, .null, .null, .null, .null, .null, .int 0, .int 0, .int 0, .int 0])) (fun a13 S14 => (∃ u15 u16 : Nat, u15 ≤ ((mc - 1) - 1) ∧ u16 ≤ ((ms - 7) - 12) ∧ wpX1_init w a13 S14 u15 u16 (fun (S17 : sn_S) => (sn_sV S17 a0 0 2 (.ref a13) (fun S18 => (¬ (2 : Int32) < 0 ∧ (2 : Int32).toNatClampNeg * 4 ≤ 536870912 ∧ sn_nw S18 (((mc - 1) - 1) - u15) (((ms - 7) - 12) - u16) (2 : Int32).toNatClampNeg (.inl (w.2.1 5, (2 : Int32).toNatClampNeg, .inr (.inr (.inr (.inr (fun _ => none)))))) (fun a19 S20 => (sn_sV S20 a0 0 3 (.ref a19) (fun S21 => (sn_nw S21 ((((mc - 1) - 1) - u15) - 1) ((((ms - 7) - 12) - u16) - (2 : Int32).toNatClampNeg) 400 (.inl (w.2.1 2, 400, (.inl (fun _ => 0)))) (fun a22 S23 => (sn_sV S23 a0 0 4 (.ref a22) (fun S24 => (sn_sV S24 a0 0 6 (.int (-1)) (fun S25 => (sn_nw S25 (((((mc - 1) - 1) - u15) - 1) - 1) (((((ms - 7) - 12) - u16) - (2 : Int32).toNatClampNeg) - 400) 2 (.inr (2, [.null, .null])) (fun a26 S27 => (∃ u28 u29 : Nat, u28 ≤ ((((((mc - 1) - 1) - u15) - 1) - 1) - 1) ∧ u29 ≤ ((((((ms - 7) - 12) - u16) - (2 : Int32).toNatClampNeg) - 400) - 2) ∧ wpX2_init w a26 S27 u28 u29 (fun (S30 : sn_S) => (sn_sV S30 a0 0 9 (.ref a26) (fun S31 => (sn_nw S31 (((((((mc - 1) - 1) - u15) - 1) - 1) - 1) - u28) (((((((ms - 7) - 12) - u16) - (2 : Int32).toNatClampNeg) - 400) - 2) - u29) 5 (.inl (w.2.1 0, 5, (.inl (fun _ => 0)))) (fun a32 S33 => (sn_sV S33 a0 0 10 (.ref a32) (fun S34 => (sn_nw S34 ((((((((mc - 1) - 1) - u15) - 1) - 1) - 1) - u28) - 1) ((((((((ms - 7) - 12) - u16) - (2 : Int32).toNatClampNeg) - 400) - 2) - u29) - 5) 6 (.inr (4, [.null, .null, .null, .null, .int 0, .null])) (fun a35 S36 => (∃ u37 u38 : Nat, u37 ≤ (((((((((mc - 1) - 1) - u15) - 1) - 1) - 1) - u28) - 1) - 1) ∧ u38 ≤ (((((((((ms - 7) - 12) - u16) - (2 : Int32).toNatClampNeg) - 400) - 2) - u29) - 5) - 6) ∧ wpX4_init w a35 a0 S36 u37 u38 (fun (S39 : sn_S) => (sn_sV S39 a0 0 11 (.ref a35) (fun S40 => (sn_nw S40 ((((((((((mc - 1) - 1) - u15) - 1) - 1) - 1) - u28) - 1) - 1) - u37) ((((((((((ms - 7) - 12) - u16) - (2 : Int32).toNatClampNeg) - 400) - 2) - u29) - 5) - 6) - u38) 360 (.inl (w.2.1 0, 360, (.inl (fun _ => 0)))) (fun a41 S42 => (sn_sV S42 a0 0 12 (.ref a41) (fun S43 => (sn_sV S43 a0 0 13 (.int (-1)) (fun S44 => (sn_nw S44 (((((((((((mc - 1) - 1) - u15) - 1) - 1) - 1) - u28) - 1) - 1) - u37) - 1) (((((((((((ms - 7) - 12) - u16) - (2 : Int32).toNatClampNeg) - 400) - 2) - u29) - 5) - 6) - u38) - 360) 12 (.inr (5, [.null, .null, .null, .int 0, .int 0, .int 0, .int 0, .int 0, .int 0, .int 0, .int 0, .null])) (fun a45 S46 => (∃ u47 u48 : Nat, u47 ≤ ((((((((((((mc - 1) - 1) - u15) - 1) - 1) - 1) - u28) - 1) - 1) - u37) - 1) - 1) ∧ u48 ≤ ((((((((((((ms - 7) - 12) - u16) - (2 : Int32).toNatClampNeg) - 400) - 2) - u29) - 5) - 6) - u38) - 360) - 12) ∧ wpX5_init w a45 a0 S46 u47 u48 (fun (S49 : sn_S) => (sn_sV S49 a0 0 14 (.ref a45) (fun S50 => (sn_nw S50 (((((((((((((mc - 1) - 1) - u15) - 1) - 1) - 1) - u28) - 1) - 1) - u37) - 1) - 1) - u47) (((((((((((((ms - 7) - 12) - u16) - (2 : Int32).toNatClampNeg) - 400) - 2) - u29) - 5) - 6) - u38) - 360) - 12) - u48) 12 (.inr (5, [.null, .null, .null, .int 0, .int 0, .int 0, .int 0, .int 0, .int 0, .int 0, .int 0, .null])) (fun a51 S52 => (∃ u53 u54 : Nat, u53 ≤ ((((((((((((((mc - 1) - 1) - u15) - 1) - 1) - 1) - u28) - 1) - 1) - u37) - 1) - 1) - u47) - 1) ∧ u54 ≤ ((((((((((((((ms - 7) - 12) - u16) - (2 : Int32).toNatClampNeg) - 400) - 2) - u29) - 5) - 6) - u38) - 360) - 12) - u48) - 12) ∧ wpX5_init w a51 a0 S52 u53 u54 (fun (S55 : sn_S) => (sn_sV S55 a0 0 15 (.ref a51) (fun S56 => (sn_sV S56 a0 0 16 (.int (-1)) (fun S57 => (sn_nw S57 (((((((((((((((mc - 1) - 1) - u15) - 1) - 1) - 1) - u28) - 1) - 1) - u37) - 1) - 1) - u47) - 1) - u53) (((((((((((((((ms - 7) - 12) - u16) - (2 : Int32).toNatClampNeg) - 400) - 2) - u29) - 5) - 6) - u38) - 360) - 12) - u48) - 12) - u54) 1 (.inr (6, [.null])) (fun a58 S59 => (∃ u60 u61 : Nat, u60 ≤ ((((((((((((((((mc - 1) - 1) - u15) - 1) - 1) - 1) - u28) - 1) - 1) - u37) - 1) - 1) - u47) - 1) - u53) - 1) ∧ u61 ≤ ((((((((((((((((ms - 7) - 12) - u16) - (2 : Int32).toNatClampNeg) - 400) - 2) - u29) - 5) - 6) - u38) - 360) - 12) - u48) - 12) - u54) - 1) ∧ wpX6_init w a58 S59 u60 u61 (fun (S62 : sn_S) => (sn_sV S62 a0 0 21 (.ref a58) (fun S63 => (sn_nw S63 (((((((((((((((((mc - 1) - 1) - u15) - 1) - 1) - 1) - u28) - 1) - 1) - u37) - 1) - 1) - u47) - 1) - u53) - 1) - u60) (((((((((((((((((ms - 7) - 12) - u16) - (2 : Int32).toNatClampNeg) - 400) - 2) - u29) - 5) - 6) - u38) - 360) - 12) - u48) - 12) - u54) - 1) - u61) 6 (.inr (7, [.null, .int 0, .int 0, .int 0, .int 0, .null])) (fun a64 S65 => (∃ u66 u67 : Nat, u66 ≤ ((((((((((((((((((mc - 1) - 1) - u15) - 1) - 1) - 1) - u28) - 1) - 1) - u37) - 1) - 1) - u47) - 1) - u53) - 1) - u60) - 1) ∧ u67 ≤ ((((((((((((((((((ms - 7) - 12) - u16) - (2 : Int32).toNatClampNeg) - 400) - 2) - u29) - 5) - 6) - u38) - 360) - 12) - u48) - 12) - u54) - 1) - u61) - 6) ∧ wpX7_init w a64 a0 S65 u66 u67 (fun (S68 : sn_S) => (sn_sV S68 a0 0 22 (.ref a64) (fun S69 => (sn_nw S69 (((((((((((((((((((mc - 1) - 1) - u15) - 1) - 1) - 1) - u28) - 1) - 1) - u37) - 1) - 1) - u47) - 1) - u53) - 1) - u60) - 1) - u66) (((((((((((((((((((ms - 7) - 12) - u16) - (2 : Int32).toNatClampNeg) - 400) - 2) - u29) - 5) - 6) - u38) - 360) - 12) - u48) - 12) - u54) - 1) - u61) - 6) - u67) 8 (.inr (8, [.null, .null, .null, .int 0, .int 0, .int 0, .int 0, .null])) (fun a70 S71 => (∃ u72 u73 : Nat, u72 ≤ ((((((((((((((((((((mc - 1) - 1) - u15) - 1) - 1) - 1) - u28) - 1) - 1) - u37) - 1) - 1) - u47) - 1) - u53) - 1) - u60) - 1) - u66) - 1) ∧ u73 ≤ ((((((((((((((((((((ms - 7) - 12) - u16) - (2 : Int32).toNatClampNeg) - 400) - 2) - u29) - 5) - 6) - u38) - 360) - 12) - u48) - 12) - u54) - 1) - u61) - 6) - u67) - 8) ∧ wpX8_init w a70 a0 S71 u72 u73 (fun (S74 : sn_S) => (sn_sV S74 a0 0 23 (.ref a70) (fun S75 => (sn_nw S75 (((((((((((((((((((((mc - 1) - 1) - u15) - 1) - 1) - 1) - u28) - 1) - 1) - u37) - 1) - 1) - u47) - 1) - u53) - 1) - u60) - 1) - u66) - 1) - u72) (((((((((((((((((((((ms - 7) - 12) - u16) - (2 : Int32).toNatClampNeg) - 400) - 2) - u29) - 5) - 6) - u38) - 360) - 12) - u48) - 12) - u54) - 1) - u61) - 6) - u67) - 8) - u73) 6 (.inr (4, [.null, .null, .null, .null, .int 0, .null])) (fun a76 S77 => (∃ u78 u79 : Nat, u78 ≤ ((((((((((((((((((((((mc - 1) - 1) - u15) - 1) - 1) - 1) - u28) - 1) - 1) - u37) - 1) - 1) - u47) - 1) - u53) - 1) - u60) - 1) - u66) - 1) - u72) - 1) ∧ u79 ≤ ((((((((((((((((((((((ms - 7) - 12) - u16) - (2 : Int32).toNatClampNeg) - 400) - 2) - u29) - 5) - 6) - u38) - 360) - 12) - u48) - 12) - u54) - 1) - u61) - 6) - u67) - 8) - u73) - 6) ∧ wpX4_init w a76 a0 S77 u78 u79 (fun (S80 : sn_S) => (sn_sV S80 a0 0 24 (.ref a76) (fun S81 => (sn_nw S81 (((((((((((((((((((((((mc - 1) - 1) - u15) - 1) - 1) - 1) - u28) - 1) - 1) - u37) - 1) - 1) - u47) - 1) - u53) - 1) - u60) - 1) - u66) - 1) - u72) - 1) - u78) (((((((((((((((((((((((ms - 7) - 12) - u16) - (2 : Int32).toNatClampNeg) - 400) - 2) - u29) - 5) - 6) - u38) - 360) - 12) - u48) - 12) - u54) - 1) - u61) - 6) - u67) - 8) - u73) - 6) - u79) 6 (.inl (w.2.1 0, 6, (.inl (fun _ => 0)))) (fun a82 S83 => (sn_sV S83 a0 0 25 (.ref a82) (fun S84 => Q S84))))))))))))))))))))))))))))))))))))))))))))))))))))))))))))))))))))))))))))))))))))
theorem wkX0_init {w : sn_W} {C : sn_C} {n : Nat} (hO : sn_Ok (LoN n) w C RX0 cX0_init 1 none [] "<init>") (a0 : Nat) (S : sn_S) (mc : Nat) (ms : Nat) (Q : sn_S → Prop) : wpX0_init w a0 S mc ms Q → sn_G (LoN n) w (rmX0_init mc ms) (sn_qV Q) sn_noE C mc ms 0 [(0, .ref a0)] [] S := by
  unfold wpX0_init
  generalize hQq : (sn_qV Q) = Qq
  refine sn_aload_n hO 0 rfl dX0_init_0 ?_
  refine sn_objInit hO q145 q146 q147 ⟨Nat.le_of_ble_eq_true rfl, Nat.le_of_ble_eq_true rfl⟩ dX0_init_1 ?_
  refine sn_aload_n hO 0 rfl dX0_init_4 ?_
  refine sn_bipush hO kb_7 dX0_init_5 ?_
  refine sn_newa (t := 0) (N := 7) hO .int (.inl (fun _ => 0)) q182 rfl rfl (fun _ => rfl) (by decide) (by decide) (Nat.le_of_ble_eq_true rfl) dX0_init_7 (fun a10 S11 => ?_)
  refine sn_oputF hO fX0_7 (fun _ _ _ h => by cases h; rfl) rfl rfl dX0_init_9 (fun S12 => ?_)
  refine sn_aload_n hO 0 rfl dX0_init_12 ?_
  refine sn_new (fs := [.null, .null, .null, .null, .null, .null, .null, .null, .int 0, .int 0, .int 0, .int 0]) hO tyX1 in_X1 tyX1_ok q148 q149 q104 rfl nfX_1 dX0_init_13 (fun a13 S14 => ?_)
  refine sn_dup hO rfl dX0_init_16 ?_
  refine sn_bud (fun u15 u16 hu15 hu16 => ?_)
  refine sn_callIN (rY := none) hO (c2 := (((mc - 1) - 1) - u15)) (s2 := (((ms - 7) - 12) - u16)) (rm := (rmX1_init u15 u16)) [] ciX0_15 (fun h => ctX1_init h) ⟨Nat.le_of_ble_eq_true rfl, Nat.le_of_ble_eq_true rfl⟩ rfl rfl (Nat.le_of_ble_eq_true rfl) ⟨hu15, hu16, rfl, rfl⟩ dX0_init_17 (sn_bV (fun S17 => ?_)) sn_x0
  refine sn_oputF hO fX0_16 (fun _ _ _ h => by cases h; rfl) rfl rfl dX0_init_20 (fun S18 => ?_)
  refine sn_aload_n hO 0 rfl dX0_init_23 ?_
  refine sn_iconst hO kc_2 dX0_init_24 ?_
  refine sn_newq (t := 5) hO q148 aoX_5 rfl dX0_init_25 (fun a19 S20 => ?_)
  refine sn_oputF hO fX0_20 (fun _ _ _ h => by cases h; rfl) rfl rfl dX0_init_28 (fun S21 => ?_)
  refine sn_aload_n hO 0 rfl dX0_init_31 ?_
  refine sn_sipush hO ks_400 dX0_init_32 ?_
  refine sn_newa (t := 2) (N := 400) hO .byte (.inl (fun _ => 0)) q312 rfl rfl (fun _ => rfl) (by decide) (by decide) (Nat.le_of_ble_eq_true rfl) dX0_init_35 (fun a22 S23 => ?_)
  refine sn_oputF hO fX0_24 (fun _ _ _ h => by cases h; rfl) rfl rfl dX0_init_37 (fun S24 => ?_)
  refine sn_aload_n hO 0 rfl dX0_init_40 ?_
  refine sn_iconst hO kc_m1 dX0_init_41 ?_
  refine sn_oput hO fX0_28 rfl rfl dX0_init_42 (fun S25 => ?_)
  refine sn_aload_n hO 0 rfl dX0_init_45 ?_
  refine sn_new (fs := [.null, .null]) hO tyX2 in_X2 tyX2_ok q246 q247 q108 rfl nfX_2 dX0_init_46 (fun a26 S27 => ?_)
  refine sn_dup hO rfl dX0_init_49 ?_
  refine sn_bud (fun u28 u29 hu28 hu29 => ?_)
  refine sn_callIN (rY := none) hO (c2 := (((((((mc - 1) - 1) - u15) - 1) - 1) - 1) - u28)) (s2 := (((((((ms - 7) - 12) - u16) - (2 : Int32).toNatClampNeg) - 400) - 2) - u29)) (rm := (rmX2_init u28 u29)) [] ciX0_34 (fun h => ctX2_init h) ⟨Nat.le_of_ble_eq_true rfl, Nat.le_of_ble_eq_true rfl⟩ rfl rfl (Nat.le_of_ble_eq_true rfl) ⟨hu28, hu29, rfl, rfl⟩ dX0_init_50 (sn_bV (fun S30 => ?_)) sn_x0
  refine sn_oputF hO fX0_35 (fun _ _ _ h => by cases h; rfl) rfl rfl dX0_init_53 (fun S31 => ?_)
  refine sn_aload_n hO 0 rfl dX0_init_56 ?_
  refine sn_iconst hO kc_5 dX0_init_57 ?_
  refine sn_newa (t := 0) (N := 5) hO .int (.inl (fun _ => 0)) q182 rfl rfl (fun _ => rfl) (by decide) (by decide) (Nat.le_of_ble_eq_true rfl) dX0_init_58 (fun a32 S33 => ?_)
  refine sn_oputF hO fX0_39 (fun _ _ _ h => by cases h; rfl) rfl rfl dX0_init_60 (fun S34 => ?_)
  refine sn_aload_n hO 0 rfl dX0_init_63 ?_
  refine sn_new (fs := [.null, .null, .null, .null, .int 0, .null]) hO tyX4 in_X4 tyX4_ok q324 q325 q112 rfl nfX_4 dX0_init_64 (fun a35 S36 => ?_)
  refine sn_dup hO rfl dX0_init_67 ?_
  refine sn_aload_n hO 0 rfl dX0_init_68 ?_
  refine sn_bud (fun u37 u38 hu37 hu38 => ?_)
  refine sn_callIN (rY := none) hO (c2 := ((((((((((mc - 1) - 1) - u15) - 1) - 1) - 1) - u28) - 1) - 1) - u37)) (s2 := ((((((((((ms - 7) - 12) - u16) - (2 : Int32).toNatClampNeg) - 400) - 2) - u29) - 5) - 6) - u38)) (rm := (rmX4_init u37 u38)) [.ref a0] ciX0_44 (fun h => ctX4_init h) ⟨Nat.le_of_ble_eq_true rfl, Nat.le_of_ble_eq_true rfl⟩ rfl rfl (Nat.le_of_ble_eq_true rfl) ⟨hu37, hu38, rfl, rfl⟩ dX0_init_69 (sn_bV (fun S39 => ?_)) sn_x0
  refine sn_oputF hO fX0_47 (fun _ _ _ h => by cases h; rfl) rfl rfl dX0_init_72 (fun S40 => ?_)
  refine sn_aload_n hO 0 rfl dX0_init_75 ?_
  refine sn_sipush hO ks_360 dX0_init_76 ?_
  refine sn_newa (t := 0) (N := 360) hO .int (.inl (fun _ => 0)) q182 rfl rfl (fun _ => rfl) (by decide) (by decide) (Nat.le_of_ble_eq_true rfl) dX0_init_79 (fun a41 S42 => ?_)
  refine sn_oputF hO fX0_51 (fun _ _ _ h => by cases h; rfl) rfl rfl dX0_init_81 (fun S43 => ?_)
  refine sn_aload_n hO 0 rfl dX0_init_84 ?_
  refine sn_iconst hO kc_m1 dX0_init_85 ?_
  refine sn_oput hO fX0_54 rfl rfl dX0_init_86 (fun S44 => ?_)
  refine sn_aload_n hO 0 rfl dX0_init_89 ?_
  refine sn_new (fs := [.null, .null, .null, .int 0, .int 0, .int 0, .int 0, .int 0, .int 0, .int 0, .int 0, .null]) hO tyX5 in_X5 tyX5_ok q356 q357 q113 rfl nfX_5 dX0_init_90 (fun a45 S46 => ?_)
  refine sn_dup hO rfl dX0_init_93 ?_
  refine sn_aload_n hO 0 rfl dX0_init_94 ?_
  refine sn_bud (fun u47 u48 hu47 hu48 => ?_)
  refine sn_callIN (rY := none) hO (c2 := (((((((((((((mc - 1) - 1) - u15) - 1) - 1) - 1) - u28) - 1) - 1) - u37) - 1) - 1) - u47)) (s2 := (((((((((((((ms - 7) - 12) - u16) - (2 : Int32).toNatClampNeg) - 400) - 2) - u29) - 5) - 6) - u38) - 360) - 12) - u48)) (rm := (rmX5_init u47 u48)) [.ref a0] ciX0_59 (fun h => ctX5_init h) ⟨Nat.le_of_ble_eq_true rfl, Nat.le_of_ble_eq_true rfl⟩ rfl rfl (Nat.le_of_ble_eq_true rfl) ⟨hu47, hu48, rfl, rfl⟩ dX0_init_95 (sn_bV (fun S49 => ?_)) sn_x0
  refine sn_oputF hO fX0_60 (fun _ _ _ h => by cases h; rfl) rfl rfl dX0_init_98 (fun S50 => ?_)
  refine sn_aload_n hO 0 rfl dX0_init_101 ?_
  refine sn_new (fs := [.null, .null, .null, .int 0, .int 0, .int 0, .int 0, .int 0, .int 0, .int 0, .int 0, .null]) hO tyX5 in_X5 tyX5_ok q356 q357 q113 rfl nfX_5 dX0_init_102 (fun a51 S52 => ?_)
  refine sn_dup hO rfl dX0_init_105 ?_
  refine sn_aload_n hO 0 rfl dX0_init_106 ?_
  refine sn_bud (fun u53 u54 hu53 hu54 => ?_)
  refine sn_callIN (rY := none) hO (c2 := (((((((((((((((mc - 1) - 1) - u15) - 1) - 1) - 1) - u28) - 1) - 1) - u37) - 1) - 1) - u47) - 1) - u53)) (s2 := (((((((((((((((ms - 7) - 12) - u16) - (2 : Int32).toNatClampNeg) - 400) - 2) - u29) - 5) - 6) - u38) - 360) - 12) - u48) - 12) - u54)) (rm := (rmX5_init u53 u54)) [.ref a0] ciX0_59 (fun h => ctX5_init h) ⟨Nat.le_of_ble_eq_true rfl, Nat.le_of_ble_eq_true rfl⟩ rfl rfl (Nat.le_of_ble_eq_true rfl) ⟨hu53, hu54, rfl, rfl⟩ dX0_init_107 (sn_bV (fun S55 => ?_)) sn_x0
  refine sn_oputF hO fX0_64 (fun _ _ _ h => by cases h; rfl) rfl rfl dX0_init_110 (fun S56 => ?_)
  refine sn_aload_n hO 0 rfl dX0_init_113 ?_
  refine sn_iconst hO kc_m1 dX0_init_114 ?_
  refine sn_oput hO fX0_67 rfl rfl dX0_init_115 (fun S57 => ?_)
  refine sn_aload_n hO 0 rfl dX0_init_118 ?_
  refine sn_new (fs := [.null]) hO tyX6 in_X6 tyX6_ok q408 q409 q114 rfl nfX_6 dX0_init_119 (fun a58 S59 => ?_)
  refine sn_dup hO rfl dX0_init_122 ?_
  refine sn_bud (fun u60 u61 hu60 hu61 => ?_)
  refine sn_callIN (rY := none) hO (c2 := (((((((((((((((((mc - 1) - 1) - u15) - 1) - 1) - 1) - u28) - 1) - 1) - u37) - 1) - 1) - u47) - 1) - u53) - 1) - u60)) (s2 := (((((((((((((((((ms - 7) - 12) - u16) - (2 : Int32).toNatClampNeg) - 400) - 2) - u29) - 5) - 6) - u38) - 360) - 12) - u48) - 12) - u54) - 1) - u61)) (rm := (rmX6_init u60 u61)) [] ciX0_72 (fun h => ctX6_init h) ⟨Nat.le_of_ble_eq_true rfl, Nat.le_of_ble_eq_true rfl⟩ rfl rfl (Nat.le_of_ble_eq_true rfl) ⟨hu60, hu61, rfl, rfl⟩ dX0_init_123 (sn_bV (fun S62 => ?_)) sn_x0
  refine sn_oputF hO fX0_73 (fun _ _ _ h => by cases h; rfl) rfl rfl dX0_init_126 (fun S63 => ?_)
  refine sn_aload_n hO 0 rfl dX0_init_129 ?_
  refine sn_new (fs := [.null, .int 0, .int 0, .int 0, .int 0, .null]) hO tyX7 in_X7 tyX7_ok q418 q419 q115 rfl nfX_7 dX0_init_130 (fun a64 S65 => ?_)
  refine sn_dup hO rfl dX0_init_133 ?_
  refine sn_aload_n hO 0 rfl dX0_init_134 ?_
  refine sn_bud (fun u66 u67 hu66 hu67 => ?_)
  refine sn_callIN (rY := none) hO (c2 := (((((((((((((((((((mc - 1) - 1) - u15) - 1) - 1) - 1) - u28) - 1) - 1) - u37) - 1) - 1) - u47) - 1) - u53) - 1) - u60) - 1) - u66)) (s2 := (((((((((((((((((((ms - 7) - 12) - u16) - (2 : Int32).toNatClampNeg) - 400) - 2) - u29) - 5) - 6) - u38) - 360) - 12) - u48) - 12) - u54) - 1) - u61) - 6) - u67)) (rm := (rmX7_init u66 u67)) [.ref a0] ciX0_79 (fun h => ctX7_init h) ⟨Nat.le_of_ble_eq_true rfl, Nat.le_of_ble_eq_true rfl⟩ rfl rfl (Nat.le_of_ble_eq_true rfl) ⟨hu66, hu67, rfl, rfl⟩ dX0_init_135 (sn_bV (fun S68 => ?_)) sn_x0
  refine sn_oputF hO fX0_80 (fun _ _ _ h => by cases h; rfl) rfl rfl dX0_init_138 (fun S69 => ?_)
  refine sn_aload_n hO 0 rfl dX0_init_141 ?_
  refine sn_new (fs := [.null, .null, .null, .int 0, .int 0, .int 0, .int 0, .null]) hO tyX8 in_X8 tyX8_ok q445 q446 q116 rfl nfX_8 dX0_init_142 (fun a70 S71 => ?_)
  refine sn_dup hO rfl dX0_init_145 ?_
  refine sn_aload_n hO 0 rfl dX0_init_146 ?_
  refine sn_bud (fun u72 u73 hu72 hu73 => ?_)
  refine sn_callIN (rY := none) hO (c2 := (((((((((((((((((((((mc - 1) - 1) - u15) - 1) - 1) - 1) - u28) - 1) - 1) - u37) - 1) - 1) - u47) - 1) - u53) - 1) - u60) - 1) - u66) - 1) - u72)) (s2 := (((((((((((((((((((((ms - 7) - 12) - u16) - (2 : Int32).toNatClampNeg) - 400) - 2) - u29) - 5) - 6) - u38) - 360) - 12) - u48) - 12) - u54) - 1) - u61) - 6) - u67) - 8) - u73)) (rm := (rmX8_init u72 u73)) [.ref a0] ciX0_86 (fun h => ctX8_init h) ⟨Nat.le_of_ble_eq_true rfl, Nat.le_of_ble_eq_true rfl⟩ rfl rfl (Nat.le_of_ble_eq_true rfl) ⟨hu72, hu73, rfl, rfl⟩ dX0_init_147 (sn_bV (fun S74 => ?_)) sn_x0
  refine sn_oputF hO fX0_87 (fun _ _ _ h => by cases h; rfl) rfl rfl dX0_init_150 (fun S75 => ?_)
  refine sn_aload_n hO 0 rfl dX0_init_153 ?_
  refine sn_new (fs := [.null, .null, .null, .null, .int 0, .null]) hO tyX4 in_X4 tyX4_ok q324 q325 q112 rfl nfX_4 dX0_init_154 (fun a76 S77 => ?_)
  refine sn_dup hO rfl dX0_init_157 ?_
  refine sn_aload_n hO 0 rfl dX0_init_158 ?_
  refine sn_bud (fun u78 u79 hu78 hu79 => ?_)
  refine sn_callIN (rY := none) hO (c2 := (((((((((((((((((((((((mc - 1) - 1) - u15) - 1) - 1) - 1) - u28) - 1) - 1) - u37) - 1) - 1) - u47) - 1) - u53) - 1) - u60) - 1) - u66) - 1) - u72) - 1) - u78)) (s2 := (((((((((((((((((((((((ms - 7) - 12) - u16) - (2 : Int32).toNatClampNeg) - 400) - 2) - u29) - 5) - 6) - u38) - 360) - 12) - u48) - 12) - u54) - 1) - u61) - 6) - u67) - 8) - u73) - 6) - u79)) (rm := (rmX4_init u78 u79)) [.ref a0] ciX0_44 (fun h => ctX4_init h) ⟨Nat.le_of_ble_eq_true rfl, Nat.le_of_ble_eq_true rfl⟩ rfl rfl (Nat.le_of_ble_eq_true rfl) ⟨hu78, hu79, rfl, rfl⟩ dX0_init_159 (sn_bV (fun S80 => ?_)) sn_x0
  refine sn_oputF hO fX0_91 (fun _ _ _ h => by cases h; rfl) rfl rfl dX0_init_162 (fun S81 => ?_)
  refine sn_aload_n hO 0 rfl dX0_init_165 ?_
  refine sn_bipush hO kb_6 dX0_init_166 ?_
  refine sn_newa (t := 0) (N := 6) hO .int (.inl (fun _ => 0)) q182 rfl rfl (fun _ => rfl) (by decide) (by decide) (Nat.le_of_ble_eq_true rfl) dX0_init_168 (fun a82 S83 => ?_)
  refine sn_oputF hO fX0_94 (fun _ _ _ h => by cases h; rfl) rfl rfl dX0_init_170 (fun S84 => ?_)
  subst hQq
  exact sn_vret hO rfl dX0_init_173
theorem ctX0_init {w : sn_W} {n : Nat} {a0 : Nat} {S : sn_S} {mc : Nat} {ms : Nat} {Q : sn_S → Prop} (h : wpX0_init w a0 S mc ms Q) : sn_Ct (LoN n) w yX0_init (ws_ yX0_init cX0_init 1 none) (rmX0_init mc ms) [.ref a0] S (sn_qV Q) sn_noE := sn_Ct_of (XX_O w) (by decide) (Nat.le_of_ble_eq_true rfl) RX0 rfl (fun C hO => wkX0_init hO a0 S mc ms Q h)
def rmX9_init (mc ms : Nat) : Room := { frames := 1, cells := mc, slots := ms, locals := 64 }
/-- SnailPostModel.<init>()V -/
def wpX9_init (w : sn_W) (a0 : Nat) (S : sn_S) (mc : Nat) (ms : Nat) (Q : sn_S → Prop) : Prop :=
  (sn_nw S mc ms 7 (.inl (w.2.1 0, 7, (.inl (fun _ => 0)))) (fun a10 S11 => (sn_sV S11 a0 20 2 (.ref a10) (fun S12 => (sn_nw S12 (mc - 1) (ms - 7) 5680 (.inl (w.2.1 0, 5680, (.inl (fun _ => 0)))) (fun a13 S14 => (sn_sV S14 a0 20 3 (.ref a13) (fun S15 => (sn_nw S15 ((mc - 1) - 1) ((ms - 7) - 5680) 11360 (.inl (w.2.1 0, 11360, (.inl (fun _ => 0)))) (fun a16 S17 => (sn_sV S17 a0 20 4 (.ref a16) (fun S18 => (sn_nw S18 (((mc - 1) - 1) - 1) (((ms - 7) - 5680) - 11360) 2 (.inl (w.2.1 1, 2, (.inl (fun _ => 0)))) (fun a19 S20 => (sn_sV S20 a0 20 5 (.ref a19) (fun S21 => (sn_nw S21 ((((mc - 1) - 1) - 1) - 1) ((((ms - 7) - 5680) - 11360) - 2) 400 (.inl (w.2.1 0, 400, (.inl (fun _ => 0)))) (fun a22 S23 => (sn_sV S23 a0 20 7 (.ref a22) (fun S24 => (sn_sV S24 a0 20 13 (.int (-1)) (fun S25 => (sn_nw S25 (((((mc - 1) - 1) - 1) - 1) - 1) (((((ms - 7) - 5680) - 11360) - 2) - 400) 96 (.inl (w.2.1 0, 96, (.inl (fun _ => 0)))) (fun a26 S27 => (sn_sV S27 a0 20 16 (.ref a26) (fun S28 => (sn_nw S28 ((((((mc - 1) - 1) - 1) - 1) - 1) - 1) ((((((ms - 7) - 5680) - 11360) - 2) - 400) - 96) 400 (.inl (w.2.1 0, 400, (.inl (fun _ => 0)))) (fun a29 S30 => (sn_sV S30 a0 20 18 (.ref a29) (fun S31 => (sn_nw S31 (((((((mc - 1) - 1) - 1) - 1) - 1) - 1) - 1) (((((((ms - 7) - 5680) - 11360) - 2) - 400) - 96) - 400) 400 (.inl (w.2.1 0, 400, (.inl (fun _ => 0)))) (fun a32 S33 => (sn_sV S33 a0 20 19 (.ref a32) (fun S34 => (sn_nw S34 ((((((((mc - 1) - 1) - 1) - 1) - 1) - 1) - 1) - 1) ((((((((ms - 7) - 5680) - 11360) - 2) - 400) - 96) - 400) - 400) 400 (.inl (w.2.1 0, 400, (.inl (fun _ => 0)))) (fun a35 S36 => (sn_sV S36 a0 20 21 (.ref a35) (fun S37 => (sn_nw S37 (((((((((mc - 1) - 1) - 1) - 1) - 1) - 1) - 1) - 1) - 1) (((((((((ms - 7) - 5680) - 11360) - 2) - 400) - 96) - 400) - 400) - 400) 400 (.inl (w.2.1 0, 400, (.inl (fun _ => 0)))) (fun a38 S39 => (sn_sV S39 a0 20 22 (.ref a38) (fun S40 => (sn_nw S40 ((((((((((mc - 1) - 1) - 1) - 1) - 1) - 1) - 1) - 1) - 1) - 1) ((((((((((ms - 7) - 5680) - 11360) - 2) - 400) - 96) - 400) - 400) - 400) - 400) 10 (.inl (w.2.1 3, 10, (.inr (.inl (fun _ => 0))))) (fun a41 S42 => (sn_uJ w S42 a41 3 0 20383020 (fun S43 => (sn_uJ w S43 a41 3 1 370116 (fun S44 => (sn_uJ w S44 a41 3 2 132528 (fun S45 => (sn_uJ w S45 a41 3 3 12885268 (fun S46 => (sn_uJ w S46 a41 3 4 21562668 (fun S47 => (sn_uJ w S47 a41 3 5 16110 (fun S48 => (sn_uJ w S48 a41 3 6 267845 (fun S49 => (sn_uJ w S49 a41 3 7 278194 (fun S50 => (sn_uJ w S50 a41 3 8 24 (fun S51 => (sn_uJ w S51 a41 3 9 25 (fun S52 => (sn_sV S52 a0 20 25 (.ref a41) (fun S53 => (sn_nw S53 (((((((((((mc - 1) - 1) - 1) - 1) - 1) - 1) - 1) - 1) - 1) - 1) - 1) (((((((((((ms - 7) - 5680) - 11360) - 2) - 400) - 96) - 400) - 400) - 400) - 400) - 10) 3 (.inl (w.2.1 3, 3, (.inr (.inl (fun _ => 0))))) (fun a54 S55 => (sn_uJ w S55 a54 3 0 13289651 (fun S56 => (sn_uJ w S56 a54 3 1 165523 (fun S57 => (sn_uJ w S57 a54 3 2 8434323 (fun S58 => (sn_sV S58 a0 20 26 (.ref a54) (fun S59 => (sn_nw S59 ((((((((((((mc - 1) - 1) - 1) - 1) - 1) - 1) - 1) - 1) - 1) - 1) - 1) - 1) ((((((((((((ms - 7) - 5680) - 11360) - 2) - 400) - 96) - 400) - 400) - 400) - 400) - 10) - 3) 13 (.inl (w.2.1 3, 13, (.inr (.inl (fun _ => 0))))) (fun a60 S61 => (sn_sV S61 a0 20 28 (.ref a60) (fun S62 => (sn_nw S62 (((((((((((((mc - 1) - 1) - 1) - 1) - 1) - 1) - 1) - 1) - 1) - 1) - 1) - 1) - 1) (((((((((((((ms - 7) - 5680) - 11360) - 2) - 400) - 96) - 400) - 400) - 400) - 400) - 10) - 3) - 13) 400 (.inl (w.2.1 3, 400, (.inr (.inl (fun _ => 0))))) (fun a63 S64 => (sn_sV S64 a0 20 29 (.ref a63) (fun S65 => (sn_nw S65 ((((((((((((((mc - 1) - 1) - 1) - 1) - 1) - 1) - 1) - 1) - 1) - 1) - 1) - 1) - 1) - 1) ((((((((((((((ms - 7) - 5680) - 11360) - 2) - 400) - 96) - 400) - 400) - 400) - 400) - 10) - 3) - 13) - 400) 6 (.inl (w.2.1 0, 6, (.inl (fun _ => 0)))) (fun a66 S67 => (sn_sV S67 a0 20 33 (.ref a66) (fun S68 => (sn_nw S68 (((((((((((((((mc - 1) - 1) - 1) - 1) - 1) - 1) - 1) - 1) - 1) - 1) - 1) - 1) - 1) - 1) - 1) (((((((((((((((ms - 7) - 5680) - 11360) - 2) - 400) - 96) - 400) - 400) - 400) - 400) - 10) - 3) - 13) - 400) - 6) 6 (.inl (w.2.1 0, 6, (.inl (fun _ => 0)))) (fun a69 S70 => (sn_sV S70 a0 20 34 (.ref a69) (fun S71 => (sn_nw S71 ((((((((((((((((mc - 1) - 1) - 1) - 1) - 1) - 1) - 1) - 1) - 1) - 1) - 1) - 1) - 1) - 1) - 1) - 1) ((((((((((((((((ms - 7) - 5680) - 11360) - 2) - 400) - 96) - 400) - 400) - 400) - 400) - 10) - 3) - 13) - 400) - 6) - 6) 6 (.inl (w.2.1 1, 6, (.inl (fun _ => 0)))) (fun a72 S73 => (sn_sV S73 a0 20 35 (.ref a72) (fun S74 => (sn_nw S74 (((((((((((((((((mc - 1) - 1) - 1) - 1) - 1) - 1) - 1) - 1) - 1) - 1) - 1) - 1) - 1) - 1) - 1) - 1) - 1) (((((((((((((((((ms - 7) - 5680) - 11360) - 2) - 400) - 96) - 400) - 400) - 400) - 400) - 10) - 3) - 13) - 400) - 6) - 6) - 6) 96 (.inl (w.2.1 0, 96, (.inl (fun _ => 0)))) (fun a75 S76 => (sn_sV S76 a0 20 36 (.ref a75) (fun S77 => (sn_nw S77 ((((((((((((((((((mc - 1) - 1) - 1) - 1) - 1) - 1) - 1) - 1) - 1) - 1) - 1) - 1) - 1) - 1) - 1) - 1) - 1) - 1) ((((((((((((((((((ms - 7) - 5680) - 11360) - 2) - 400) - 96) - 400) - 400) - 400) - 400) - 10) - 3) - 13) - 400) - 6) - 6) - 6) - 96) 6 (.inl (w.2.1 0, 6, (.inl (fun _ => 0)))) (fun a78 S79 => (sn_sV S79 a0 20 37 (.ref a78) (fun S80 => (sn_nw S80 (((((((((((((((((((mc - 1) - 1) - 1) - 1) - 1) - 1) - 1) - 1) - 1) - 1) - 1) - 1) - 1) - 1) - 1) - 1) - 1) - 1) - 1) (((((((((((((((((((ms - 7) - 5680) - 11360) - 2) - 400) - 96) - 400) - 400) - 400) - 400) - 10) - 3) - 13) - 400) - 6) - 6) - 6) - 96) - 6) 360 (.inl (w.2.1 0, 360, (.inl (fun _ => 0)))) (fun a81 S82 => (sn_sV S82 a0 20 38 (.ref a81) (fun S83 => (sn_nw S83 ((((((((((((((((((((mc - 1) - 1) - 1) - 1) - 1) - 1) - 1) - 1) - 1) - 1) - 1) - 1) - 1) - 1) - 1) - 1) - 1) - 1) - 1) - 1) ((((((((((((((((((((ms - 7) - 5680) - 11360) - 2) - 400) - 96) - 400) - 400) - 400) - 400) - 10) - 3) - 13) - 400) - 6) - 6) - 6) - 96) - 6) - 360) 36 (.inl (w.2.1 0, 36, (.inl (fun _ => 0)))) (fun a84 S85 => (sn_sV S85 a0 20 39 (.ref a84) (fun S86 => (sn_nw S86 (((((((((((((((((((((mc - 1) - 1) - 1) - 1) - 1) - 1) - 1) - 1) - 1) - 1) - 1) - 1) - 1) - 1) - 1) - 1) - 1) - 1) - 1) - 1) - 1) (((((((((((((((((((((ms - 7) - 5680) - 11360) - 2) - 400) - 96) - 400) - 400) - 400) - 400) - 10) - 3) - 13) - 400) - 6) - 6) - 6) - 96) - 6) - 360) - 36) 36 (.inl (w.2.1 0, 36, (.inl (fun _ => 0)))) (fun a87 S88 => (sn_sV S88 a0 20 40 (.ref a87) (fun S89 => (sn_nw S89 ((((((((((((((((((((((mc - 1) - 1) - 1) - 1) - 1) - 1) - 1) - 1) - 1) - 1) - 1) - 1) - 1) - 1) - 1) - 1) - 1) - 1) - 1) - 1) - 1) - 1) ((((((((((((((((((((((ms - 7) - 5680) - 11360) - 2) - 400) - 96) - 400) - 400) - 400) - 400) - 10) - 3) - 13) - 400) - 6) - 6) - 6) - 96) - 6) - 360) - 36) - 36) 576 (.inl (w.2.1 0, 576, (.inl (fun _ => 0)))) (fun a90 S91 => (sn_sV S91 a0 20 41 (.ref a90) (fun S92 => (sn_nw S92 (((((((((((((((((((((((mc - 1) - 1) - 1) - 1) - 1) - 1) - 1) - 1) - 1) - 1) - 1) - 1) - 1) - 1) - 1) - 1) - 1) - 1) - 1) - 1) - 1) - 1) - 1) (((((((((((((((((((((((ms - 7) - 5680) - 11360) - 2) - 400) - 96) - 400) - 400) - 400) - 400) - 10) - 3) - 13) - 400) - 6) - 6) - 6) - 96) - 6) - 360) - 36) - 36) - 576) 5 (.inl (w.2.1 0, 5, (.inl (fun _ => 0)))) (fun a93 S94 => (sn_sV S94 a0 20 42 (.ref a93) (fun S95 => (sn_nw S95 ((((((((((((((((((((((((mc - 1) - 1) - 1) - 1) - 1) - 1) - 1) - 1) - 1) - 1) - 1) - 1) - 1) - 1) - 1) - 1) - 1) - 1) - 1) - 1) - 1) - 1) - 1) - 1) ((((((((((((((((((((((((ms - 7) - 5680) - 11360) - 2) - 400) - 96) - 400) - 400) - 400) - 400) - 10) - 3) - 13) - 400) - 6) - 6) - 6) - 96) - 6) - 360) - 36) - 36) - 576) - 5) 5 (.inl (w.2.1 0, 5, (.inl (fun _ => 0)))) (fun a96 S97 => (sn_sV S97 a0 20 43 (.ref a96) (fun S98 => (sn_nw S98 (((((((((((((((((((((((((mc - 1) - 1) - 1) - 1) - 1) - 1) - 1) - 1) - 1) - 1) - 1) - 1) - 1) - 1) - 1) - 1) - 1) - 1) - 1) - 1) - 1) - 1) - 1) - 1) - 1) (((((((((((((((((((((((((ms - 7) - 5680) - 11360) - 2) - 400) - 96) - 400) - 400) - 400) - 400) - 10) - 3) - 13) - 400) - 6) - 6) - 6) - 96) - 6) - 360) - 36) - 36) - 576) - 5) - 5) 6 (.inl (w.2.1 0, 6, (.inl (fun _ => 0)))) (fun a99 S100 => (sn_sV S100 a0 20 47 (.ref a99) (fun S101 => (sn_nw S101 ((((((((((((((((((((((((((mc - 1) - 1) - 1) - 1) - 1) - 1) - 1) - 1) - 1) - 1) - 1) - 1) - 1) - 1) - 1) - 1) - 1) - 1) - 1) - 1) - 1) - 1) - 1) - 1) - 1) - 1) ((((((((((((((((((((((((((ms - 7) - 5680) - 11360) - 2) - 400) - 96) - 400) - 400) - 400) - 400) - 10) - 3) - 13) - 400) - 6) - 6) - 6) - 96) - 6) - 360) - 36) - 36) - 576) - 5) - 5) - 6) 5 (.inl (w.2.1 0, 5, (.inl (fun _ => 0)))) (fun a102 S103 => (sn_sV S103 a0 20 48 (.ref a102) (fun S104 => (sn_nw S104 (((((((((((((((((((((((((((mc - 1) - 1) - 1) - 1) - 1) - 1) - 1) - 1) - 1) - 1) - 1) - 1) - 1) - 1) - 1) - 1) - 1) - 1) - 1) - 1) - 1) - 1) - 1) - 1) - 1) - 1) - 1) (((((((((((((((((((((((((((ms - 7) - 5680) - 11360) - 2) - 400) - 96) - 400) - 400) - 400) - 400) - 10) - 3) - 13) - 400) - 6) - 6) - 6) - 96) - 6) - 360) - 36) - 36) - 576) - 5) - 5) - 6) - 5) 5 (.inl (w.2.1 0, 5, (.inl (fun _ => 0)))) (fun a105 S106 => (sn_sV S106 a0 20 49 (.ref a105) (fun S107 => (sn_nw S107 ((((((((((((((((((((((((((((mc - 1) - 1) - 1) - 1) - 1) - 1) - 1) - 1) - 1) - 1) - 1) - 1) - 1) - 1) - 1) - 1) - 1) - 1) - 1) - 1) - 1) - 1) - 1) - 1) - 1) - 1) - 1) - 1) ((((((((((((((((((((((((((((ms - 7) - 5680) - 11360) - 2) - 400) - 96) - 400) - 400) - 400) - 400) - 10) - 3) - 13) - 400) - 6) - 6) - 6) - 96) - 6) - 360) - 36) - 36) - 576) - 5) - 5) - 6) - 5) - 5) 6 (.inl (w.2.1 0, 6, (.inl (fun _ => 0)))) (fun a108 S109 => (sn_sV S109 a0 20 50 (.ref a108) (fun S110 => (sn_nw S110 (((((((((((((((((((((((((((((mc - 1) - 1) - 1) - 1) - 1) - 1) - 1) - 1) - 1) - 1) - 1) - 1) - 1) - 1) - 1) - 1) - 1) - 1) - 1) - 1) - 1) - 1) - 1) - 1) - 1) - 1) - 1) - 1) - 1) (((((((((((((((((((((((((((((ms - 7) - 5680) - 11360) - 2) - 400) - 96) - 400) - 400) - 400) - 400) - 10) - 3) - 13) - 400) - 6) - 6) - 6) - 96) - 6) - 360) - 36) - 36) - 576) - 5) - 5) - 6) - 5) - 5) - 6) 8 (.inl (w.2.1 0, 8, (.inl (fun _ => 0)))) (fun a111 S112 => (sn_sV S112 a0 20 51 (.ref a111) (fun S113 => (sn_nw S113 ((((((((((((((((((((((((((((((mc - 1) - 1) - 1) - 1) - 1) - 1) - 1) - 1) - 1) - 1) - 1) - 1) - 1) - 1) - 1) - 1) - 1) - 1) - 1) - 1) - 1) - 1) - 1) - 1) - 1) - 1) - 1) - 1) - 1) - 1) ((((((((((((((((((((((((((((((ms - 7) - 5680) - 11360) - 2) - 400) - 96) - 400) - 400) - 400) - 400) - 10) - 3) - 13) - 400) - 6) - 6) - 6) - 96) - 6) - 360) - 36) - 36) - 576) - 5) - 5) - 6) - 5) - 5) - 6) - 8) 64 (.inl (w.2.1 0, 64, (.inl (fun _ => 0)))) (fun a114 S115 => (sn_sV S115 a0 20 52 (.ref a114) (fun S116 => (sn_nw S116 (((((((((((((((((((((((((((((((mc - 1) - 1) - 1) - 1) - 1) - 1) - 1) - 1) - 1) - 1) - 1) - 1) - 1) - 1) - 1) - 1) - 1) - 1) - 1) - 1) - 1) - 1) - 1) - 1) - 1) - 1) - 1) - 1) - 1) - 1) - 1) (((((((((((((((((((((((((((((((ms - 7) - 5680) - 11360) - 2) - 400) - 96) - 400) - 400) - 400) - 400) - 10) - 3) - 13) - 400) - 6) - 6) - 6) - 96) - 6) - 360) - 36) - 36) - 576) - 5) - 5) - 6) - 5) - 5) - 6) - 8) - 64) 64 (.inl (w.2.1 0, 64, (.inl (fun _ => 0)))) (fun a117 S118 => (sn_sV S118 a0 20 53 (.ref a117) (fun S119 => (sn_nw S119 ((((((((((((((((((((((((((((((((mc - 1) - 1) - 1) - 1) - 1) - 1) - 1) - 1) - 1) - 1) - 1) - 1) - 1) - 1) - 1) - 1) - 1) - 1) - 1) - 1) - 1) - 1) - 1) - 1) - 1) - 1) - 1) - 1) - 1) - 1) - 1) - 1) ((((((((((((((((((((((((((((((((ms - 7) - 5680) - 11360) - 2) - 400) - 96) - 400) - 400) - 400) - 400) - 10) - 3) - 13) - 400) - 6) - 6) - 6) - 96) - 6) - 360) - 36) - 36) - 576) - 5) - 5) - 6) - 5) - 5) - 6) - 8) - 64) - 64) 64 (.inl (w.2.1 0, 64, (.inl (fun _ => 0)))) (fun a120 S121 => (sn_sV S121 a0 20 54 (.ref a120) (fun S122 => (sn_nw S122 (((((((((((((((((((((((((((((((((mc - 1) - 1) - 1) - 1) - 1) - 1) - 1) - 1) - 1) - 1) - 1) - 1) - 1) - 1) - 1) - 1) - 1) - 1) - 1) - 1) - 1) - 1) - 1) - 1) - 1) - 1) - 1) - 1) - 1) - 1) - 1) - 1) - 1) (((((((((((((((((((((((((((((((((ms - 7) - 5680) - 11360) - 2) - 400) - 96) - 400) - 400) - 400) - 400) - 10) - 3) - 13) - 400) - 6) - 6) - 6) - 96) - 6) - 360) - 36) - 36) - 576) - 5) - 5) - 6) - 5) - 5) - 6) - 8) - 64) - 64) - 64) 6 (.inl (w.2.1 0, 6, (.inl (fun _ => 0)))) (fun a123 S124 => (sn_sV S124 a0 20 56 (.ref a123) (fun S125 => (sn_nw S125 ((((((((((((((((((((((((((((((((((mc - 1) - 1) - 1) - 1) - 1) - 1) - 1) - 1) - 1) - 1) - 1) - 1) - 1) - 1) - 1) - 1) - 1) - 1) - 1) - 1) - 1) - 1) - 1) - 1) - 1) - 1) - 1) - 1) - 1) - 1) - 1) - 1) - 1) - 1) ((((((((((((((((((((((((((((((((((ms - 7) - 5680) - 11360) - 2) - 400) - 96) - 400) - 400) - 400) - 400) - 10) - 3) - 13) - 400) - 6) - 6) - 6) - 96) - 6) - 360) - 36) - 36) - 576) - 5) - 5) - 6) - 5) - 5) - 6) - 8) - 64) - 64) - 64) - 6) 6 (.inl (w.2.1 0, 6, (.inl (fun _ => 0)))) (fun a126 S127 => (sn_sV S127 a0 20 57 (.ref a126) (fun S128 => (sn_nw S128 (((((((((((((((((((((((((((((((((((mc - 1) - 1) - 1) - 1) - 1) - 1) - 1) - 1) - 1) - 1) - 1) - 1) - 1) - 1) - 1) - 1) - 1) - 1) - 1) - 1) - 1) - 1) - 1) - 1) - 1) - 1) - 1) - 1) - 1) - 1) - 1) - 1) - 1) - 1) - 1) (((((((((((((((((((((((((((((((((((ms - 7) - 5680) - 11360) - 2) - 400) - 96) - 400) - 400) - 400) - 400) - 10) - 3) - 13) - 400) - 6) - 6) - 6) - 96) - 6) - 360) - 36) - 36) - 576) - 5) - 5) - 6) - 5) - 5) - 6) - 8) - 64) - 64) - 64) - 6) - 6) 6 (.inl (w.2.1 0, 6, (.inl (fun _ => 0)))) (fun a129 S130 => (sn_sV S130 a0 20 58 (.ref a129) (fun S131 => (sn_gQ S131 a0 20 3 (fun q132 => (sn_nn q132 (fun a133 => (sn_uI w S131 a133 0 3 (-1) (fun S134 => (sn_gQ S134 a0 20 3 (fun q135 => (sn_nn q135 (fun a136 => (sn_uI w S134 a136 0 5 1 (fun S137 => (sn_gQ S137 a0 20 3 (fun q138 => (sn_nn q138 (fun a139 => (sn_uI w S137 a139 0 6 9 (fun S140 => sn_lp4 (fun (rc145 : Int32 → Nat → Nat → sn_S → Prop) (i141 : Int32) (m143 : Nat) (m144 : Nat) (S142 : sn_S) => ((5 ≤ i141 → Q S142) ∧ (¬ 5 ≤ i141 → (sn_gQ S142 a0 20 3 (fun q146 => (sn_nn q146 (fun a147 => (sn_uI w S142 a147 0 (7 + i141) (-1) (fun S148 => rc145 (i141 + 1) m143 m144 S148))))))))) 0 ((((((((((((((((((((((((((((((((((((mc - 1) - 1) - 1) - 1) - 1) - 1) - 1) - 1) - 1) - 1) - 1) - 1) - 1) - 1) - 1) - 1) - 1) - 1) - 1) - 1) - 1) - 1) - 1) - 1) - 1) - 1) - 1) - 1) - 1) - 1) - 1) - 1) - 1) - 1) - 1) - 1) ((((((((((((((((((((((((((((((((((((ms - 7) - 5680) - 11360) - 2) - 400) - 96) - 400) - 400) - 400) - 400) - 10) - 3) - 13) - 400) - 6) - 6) - 6) - 96) - 6) - 360) - 36) - 36) - 576) - 5) - 5) - 6) - 5) - 5) - 6) - 8) - 64) - 64) - 64) - 6) - 6) - 6) S140))))))))))))))))))))))))))))))))))))))))))))))))))))))))))))))))))))))))))))))))))))))))))))))))))))))))))))))))))))))))))))))))))))))))))))))))))))))))))))))))))))))))))))))))))))))))))))))
theorem wkX9_init {w : sn_W} {C : sn_C} {n : Nat} (hO : sn_Ok (LoN n) w C RX9 cX9_init 2 none [] "<init>") (a0 : Nat) (S : sn_S) (mc : Nat) (ms : Nat) (Q : sn_S → Prop) : wpX9_init w a0 S mc ms Q → sn_G (LoN n) w (rmX9_init mc ms) (sn_qV Q) sn_noE C mc ms 0 [(0, .ref a0)] [] S := by
  unfold wpX9_init
  generalize hQq : (sn_qV Q) = Qq
  refine sn_aload_n hO 0 rfl dX9_init_0 ?_
  refine sn_objInit hO q1439 q146 q147 ⟨Nat.le_of_ble_eq_true rfl, Nat.le_of_ble_eq_true rfl⟩ dX9_init_1 ?_
  refine sn_aload_n hO 0 rfl dX9_init_4 ?_
  refine sn_bipush hO kb_7 dX9_init_5 ?_
  refine sn_newa (t := 0) (N := 7) hO .int (.inl (fun _ => 0)) q182 rfl rfl (fun _ => rfl) (by decide) (by decide) (Nat.le_of_ble_eq_true rfl) dX9_init_7 (fun a10 S11 => ?_)
  refine sn_oputF hO fX9_7 (fun _ _ _ h => by cases h; rfl) rfl rfl dX9_init_9 (fun S12 => ?_)
  refine sn_aload_n hO 0 rfl dX9_init_12 ?_
  refine sn_sipush hO ks_5680 dX9_init_13 ?_
  refine sn_newa (t := 0) (N := 5680) hO .int (.inl (fun _ => 0)) q182 rfl rfl (fun _ => rfl) (by decide) (by decide) (Nat.le_of_ble_eq_true rfl) dX9_init_16 (fun a13 S14 => ?_)
  refine sn_oputF hO fX9_13 (fun _ _ _ h => by cases h; rfl) rfl rfl dX9_init_18 (fun S15 => ?_)
  refine sn_aload_n hO 0 rfl dX9_init_21 ?_
  refine sn_sipush hO ks_11360 dX9_init_22 ?_
  refine sn_newa (t := 0) (N := 11360) hO .int (.inl (fun _ => 0)) q182 rfl rfl (fun _ => rfl) (by decide) (by decide) (Nat.le_of_ble_eq_true rfl) dX9_init_25 (fun a16 S17 => ?_)
  refine sn_oputF hO fX9_16 (fun _ _ _ h => by cases h; rfl) rfl rfl dX9_init_27 (fun S18 => ?_)
  refine sn_aload_n hO 0 rfl dX9_init_30 ?_
  refine sn_iconst hO kc_2 dX9_init_31 ?_
  refine sn_newa (t := 1) (N := 2) hO .boolean (.inl (fun _ => 0)) q183 rfl rfl (fun _ => rfl) (by decide) (by decide) (Nat.le_of_ble_eq_true rfl) dX9_init_32 (fun a19 S20 => ?_)
  refine sn_oputF hO fX9_19 (fun _ _ _ h => by cases h; rfl) rfl rfl dX9_init_34 (fun S21 => ?_)
  refine sn_aload_n hO 0 rfl dX9_init_37 ?_
  refine sn_sipush hO ks_400 dX9_init_38 ?_
  refine sn_newa (t := 0) (N := 400) hO .int (.inl (fun _ => 0)) q182 rfl rfl (fun _ => rfl) (by decide) (by decide) (Nat.le_of_ble_eq_true rfl) dX9_init_41 (fun a22 S23 => ?_)
  refine sn_oputF hO fX9_23 (fun _ _ _ h => by cases h; rfl) rfl rfl dX9_init_43 (fun S24 => ?_)
  refine sn_aload_n hO 0 rfl dX9_init_46 ?_
  refine sn_iconst hO kc_m1 dX9_init_47 ?_
  refine sn_oput hO fX9_26 rfl rfl dX9_init_48 (fun S25 => ?_)
  refine sn_aload_n hO 0 rfl dX9_init_51 ?_
  refine sn_bipush hO kb_96 dX9_init_52 ?_
  refine sn_newa (t := 0) (N := 96) hO .int (.inl (fun _ => 0)) q182 rfl rfl (fun _ => rfl) (by decide) (by decide) (Nat.le_of_ble_eq_true rfl) dX9_init_54 (fun a26 S27 => ?_)
  refine sn_oputF hO fX9_30 (fun _ _ _ h => by cases h; rfl) rfl rfl dX9_init_56 (fun S28 => ?_)
  refine sn_aload_n hO 0 rfl dX9_init_59 ?_
  refine sn_sipush hO ks_400 dX9_init_60 ?_
  refine sn_newa (t := 0) (N := 400) hO .int (.inl (fun _ => 0)) q182 rfl rfl (fun _ => rfl) (by decide) (by decide) (Nat.le_of_ble_eq_true rfl) dX9_init_63 (fun a29 S30 => ?_)
  refine sn_oputF hO fX9_33 (fun _ _ _ h => by cases h; rfl) rfl rfl dX9_init_65 (fun S31 => ?_)
  refine sn_aload_n hO 0 rfl dX9_init_68 ?_
  refine sn_sipush hO ks_400 dX9_init_69 ?_
  refine sn_newa (t := 0) (N := 400) hO .int (.inl (fun _ => 0)) q182 rfl rfl (fun _ => rfl) (by decide) (by decide) (Nat.le_of_ble_eq_true rfl) dX9_init_72 (fun a32 S33 => ?_)
  refine sn_oputF hO fX9_36 (fun _ _ _ h => by cases h; rfl) rfl rfl dX9_init_74 (fun S34 => ?_)
  refine sn_aload_n hO 0 rfl dX9_init_77 ?_
  refine sn_sipush hO ks_400 dX9_init_78 ?_
  refine sn_newa (t := 0) (N := 400) hO .int (.inl (fun _ => 0)) q182 rfl rfl (fun _ => rfl) (by decide) (by decide) (Nat.le_of_ble_eq_true rfl) dX9_init_81 (fun a35 S36 => ?_)
  refine sn_oputF hO fX9_39 (fun _ _ _ h => by cases h; rfl) rfl rfl dX9_init_83 (fun S37 => ?_)
  refine sn_aload_n hO 0 rfl dX9_init_86 ?_
  refine sn_sipush hO ks_400 dX9_init_87 ?_
  refine sn_newa (t := 0) (N := 400) hO .int (.inl (fun _ => 0)) q182 rfl rfl (fun _ => rfl) (by decide) (by decide) (Nat.le_of_ble_eq_true rfl) dX9_init_90 (fun a38 S39 => ?_)
  refine sn_oputF hO fX9_42 (fun _ _ _ h => by cases h; rfl) rfl rfl dX9_init_92 (fun S40 => ?_)
  refine sn_aload_n hO 0 rfl dX9_init_95 ?_
  refine sn_bipush hO kb_10 dX9_init_96 ?_
  refine sn_newa (t := 3) (N := 10) hO .long (.inr (.inl (fun _ => 0))) q323 rfl rfl (fun _ => rfl) (by decide) (by decide) (Nat.le_of_ble_eq_true rfl) dX9_init_98 (fun a41 S42 => ?_)
  refine sn_dup hO rfl dX9_init_100 ?_
  refine sn_iconst hO kc_0 dX9_init_101 ?_
  refine sn_ldc2 hO q1440 dX9_init_102 ?_
  refine sn_olast hO rfl dX9_init_105 (fun S43 => ?_)
  refine sn_dup hO rfl dX9_init_106 ?_
  refine sn_iconst hO kc_1 dX9_init_107 ?_
  refine sn_ldc2 hO q1441 dX9_init_108 ?_
  refine sn_olast hO rfl dX9_init_111 (fun S44 => ?_)
  refine sn_dup hO rfl dX9_init_112 ?_
  refine sn_iconst hO kc_2 dX9_init_113 ?_
  refine sn_ldc2 hO q1442 dX9_init_114 ?_
  refine sn_olast hO rfl dX9_init_117 (fun S45 => ?_)
  refine sn_dup hO rfl dX9_init_118 ?_
  refine sn_iconst hO kc_3 dX9_init_119 ?_
  refine sn_ldc2 hO q1443 dX9_init_120 ?_
  refine sn_olast hO rfl dX9_init_123 (fun S46 => ?_)
  refine sn_dup hO rfl dX9_init_124 ?_
  refine sn_iconst hO kc_4 dX9_init_125 ?_
  refine sn_ldc2 hO q1444 dX9_init_126 ?_
  refine sn_olast hO rfl dX9_init_129 (fun S47 => ?_)
  refine sn_dup hO rfl dX9_init_130 ?_
  refine sn_iconst hO kc_5 dX9_init_131 ?_
  refine sn_ldc2 hO q1445 dX9_init_132 ?_
  refine sn_olast hO rfl dX9_init_135 (fun S48 => ?_)
  refine sn_dup hO rfl dX9_init_136 ?_
  refine sn_bipush hO kb_6 dX9_init_137 ?_
  refine sn_ldc2 hO q1446 dX9_init_139 ?_
  refine sn_olast hO rfl dX9_init_142 (fun S49 => ?_)
  refine sn_dup hO rfl dX9_init_143 ?_
  refine sn_bipush hO kb_7 dX9_init_144 ?_
  refine sn_ldc2 hO q1447 dX9_init_146 ?_
  refine sn_olast hO rfl dX9_init_149 (fun S50 => ?_)
  refine sn_dup hO rfl dX9_init_150 ?_
  refine sn_bipush hO kb_8 dX9_init_151 ?_
  refine sn_ldc2 hO q1448 dX9_init_153 ?_
  refine sn_olast hO rfl dX9_init_156 (fun S51 => ?_)
  refine sn_dup hO rfl dX9_init_157 ?_
  refine sn_bipush hO kb_9 dX9_init_158 ?_
  refine sn_ldc2 hO q1449 dX9_init_160 ?_
  refine sn_olast hO rfl dX9_init_163 (fun S52 => ?_)
  refine sn_oputF hO fX9_65 (fun _ _ _ h => by cases h; rfl) rfl rfl dX9_init_164 (fun S53 => ?_)
  refine sn_aload_n hO 0 rfl dX9_init_167 ?_
  refine sn_iconst hO kc_3 dX9_init_168 ?_
  refine sn_newa (t := 3) (N := 3) hO .long (.inr (.inl (fun _ => 0))) q323 rfl rfl (fun _ => rfl) (by decide) (by decide) (Nat.le_of_ble_eq_true rfl) dX9_init_169 (fun a54 S55 => ?_)
  refine sn_dup hO rfl dX9_init_171 ?_
  refine sn_iconst hO kc_0 dX9_init_172 ?_
  refine sn_ldc2 hO q1450 dX9_init_173 ?_
  refine sn_olast hO rfl dX9_init_176 (fun S56 => ?_)
  refine sn_dup hO rfl dX9_init_177 ?_
  refine sn_iconst hO kc_1 dX9_init_178 ?_
  refine sn_ldc2 hO q1451 dX9_init_179 ?_
  refine sn_olast hO rfl dX9_init_182 (fun S57 => ?_)
  refine sn_dup hO rfl dX9_init_183 ?_
  refine sn_iconst hO kc_2 dX9_init_184 ?_
  refine sn_ldc2 hO q1452 dX9_init_185 ?_
  refine sn_olast hO rfl dX9_init_188 (fun S58 => ?_)
  refine sn_oputF hO fX9_75 (fun _ _ _ h => by cases h; rfl) rfl rfl dX9_init_189 (fun S59 => ?_)
  refine sn_aload_n hO 0 rfl dX9_init_192 ?_
  refine sn_bipush hO kb_13 dX9_init_193 ?_
  refine sn_newa (t := 3) (N := 13) hO .long (.inr (.inl (fun _ => 0))) q323 rfl rfl (fun _ => rfl) (by decide) (by decide) (Nat.le_of_ble_eq_true rfl) dX9_init_195 (fun a60 S61 => ?_)
  refine sn_oputF hO fX9_78 (fun _ _ _ h => by cases h; rfl) rfl rfl dX9_init_197 (fun S62 => ?_)
  refine sn_aload_n hO 0 rfl dX9_init_200 ?_
  refine sn_sipush hO ks_400 dX9_init_201 ?_
  refine sn_newa (t := 3) (N := 400) hO .long (.inr (.inl (fun _ => 0))) q323 rfl rfl (fun _ => rfl) (by decide) (by decide) (Nat.le_of_ble_eq_true rfl) dX9_init_204 (fun a63 S64 => ?_)
  refine sn_oputF hO fX9_81 (fun _ _ _ h => by cases h; rfl) rfl rfl dX9_init_206 (fun S65 => ?_)
  refine sn_aload_n hO 0 rfl dX9_init_209 ?_
  refine sn_bipush hO kb_6 dX9_init_210 ?_
  refine sn_newa (t := 0) (N := 6) hO .int (.inl (fun _ => 0)) q182 rfl rfl (fun _ => rfl) (by decide) (by decide) (Nat.le_of_ble_eq_true rfl) dX9_init_212 (fun a66 S67 => ?_)
  refine sn_oputF hO fX9_84 (fun _ _ _ h => by cases h; rfl) rfl rfl dX9_init_214 (fun S68 => ?_)
  refine sn_aload_n hO 0 rfl dX9_init_217 ?_
  refine sn_bipush hO kb_6 dX9_init_218 ?_
  refine sn_newa (t := 0) (N := 6) hO .int (.inl (fun _ => 0)) q182 rfl rfl (fun _ => rfl) (by decide) (by decide) (Nat.le_of_ble_eq_true rfl) dX9_init_220 (fun a69 S70 => ?_)
  refine sn_oputF hO fX9_87 (fun _ _ _ h => by cases h; rfl) rfl rfl dX9_init_222 (fun S71 => ?_)
  refine sn_aload_n hO 0 rfl dX9_init_225 ?_
  refine sn_bipush hO kb_6 dX9_init_226 ?_
  refine sn_newa (t := 1) (N := 6) hO .boolean (.inl (fun _ => 0)) q183 rfl rfl (fun _ => rfl) (by decide) (by decide) (Nat.le_of_ble_eq_true rfl) dX9_init_228 (fun a72 S73 => ?_)
  refine sn_oputF hO fX9_90 (fun _ _ _ h => by cases h; rfl) rfl rfl dX9_init_230 (fun S74 => ?_)
  refine sn_aload_n hO 0 rfl dX9_init_233 ?_
  refine sn_bipush hO kb_96 dX9_init_234 ?_
  refine sn_newa (t := 0) (N := 96) hO .int (.inl (fun _ => 0)) q182 rfl rfl (fun _ => rfl) (by decide) (by decide) (Nat.le_of_ble_eq_true rfl) dX9_init_236 (fun a75 S76 => ?_)
  refine sn_oputF hO fX9_93 (fun _ _ _ h => by cases h; rfl) rfl rfl dX9_init_238 (fun S77 => ?_)
  refine sn_aload_n hO 0 rfl dX9_init_241 ?_
  refine sn_bipush hO kb_6 dX9_init_242 ?_
  refine sn_newa (t := 0) (N := 6) hO .int (.inl (fun _ => 0)) q182 rfl rfl (fun _ => rfl) (by decide) (by decide) (Nat.le_of_ble_eq_true rfl) dX9_init_244 (fun a78 S79 => ?_)
  refine sn_oputF hO fX9_96 (fun _ _ _ h => by cases h; rfl) rfl rfl dX9_init_246 (fun S80 => ?_)
  refine sn_aload_n hO 0 rfl dX9_init_249 ?_
  refine sn_sipush hO ks_360 dX9_init_250 ?_
  refine sn_newa (t := 0) (N := 360) hO .int (.inl (fun _ => 0)) q182 rfl rfl (fun _ => rfl) (by decide) (by decide) (Nat.le_of_ble_eq_true rfl) dX9_init_253 (fun a81 S82 => ?_)
  refine sn_oputF hO fX9_99 (fun _ _ _ h => by cases h; rfl) rfl rfl dX9_init_255 (fun S83 => ?_)
  refine sn_aload_n hO 0 rfl dX9_init_258 ?_
  refine sn_bipush hO kb_36 dX9_init_259 ?_
  refine sn_newa (t := 0) (N := 36) hO .int (.inl (fun _ => 0)) q182 rfl rfl (fun _ => rfl) (by decide) (by decide) (Nat.le_of_ble_eq_true rfl) dX9_init_261 (fun a84 S85 => ?_)
  refine sn_oputF hO fX9_102 (fun _ _ _ h => by cases h; rfl) rfl rfl dX9_init_263 (fun S86 => ?_)
  refine sn_aload_n hO 0 rfl dX9_init_266 ?_
  refine sn_bipush hO kb_36 dX9_init_267 ?_
  refine sn_newa (t := 0) (N := 36) hO .int (.inl (fun _ => 0)) q182 rfl rfl (fun _ => rfl) (by decide) (by decide) (Nat.le_of_ble_eq_true rfl) dX9_init_269 (fun a87 S88 => ?_)
  refine sn_oputF hO fX9_105 (fun _ _ _ h => by cases h; rfl) rfl rfl dX9_init_271 (fun S89 => ?_)
  refine sn_aload_n hO 0 rfl dX9_init_274 ?_
  refine sn_sipush hO ks_576 dX9_init_275 ?_
  refine sn_newa (t := 0) (N := 576) hO .int (.inl (fun _ => 0)) q182 rfl rfl (fun _ => rfl) (by decide) (by decide) (Nat.le_of_ble_eq_true rfl) dX9_init_278 (fun a90 S91 => ?_)
  refine sn_oputF hO fX9_108 (fun _ _ _ h => by cases h; rfl) rfl rfl dX9_init_280 (fun S92 => ?_)
  refine sn_aload_n hO 0 rfl dX9_init_283 ?_
  refine sn_iconst hO kc_5 dX9_init_284 ?_
  refine sn_newa (t := 0) (N := 5) hO .int (.inl (fun _ => 0)) q182 rfl rfl (fun _ => rfl) (by decide) (by decide) (Nat.le_of_ble_eq_true rfl) dX9_init_285 (fun a93 S94 => ?_)
  refine sn_oputF hO fX9_111 (fun _ _ _ h => by cases h; rfl) rfl rfl dX9_init_287 (fun S95 => ?_)
  refine sn_aload_n hO 0 rfl dX9_init_290 ?_
  refine sn_iconst hO kc_5 dX9_init_291 ?_
  refine sn_newa (t := 0) (N := 5) hO .int (.inl (fun _ => 0)) q182 rfl rfl (fun _ => rfl) (by decide) (by decide) (Nat.le_of_ble_eq_true rfl) dX9_init_292 (fun a96 S97 => ?_)
  refine sn_oputF hO fX9_114 (fun _ _ _ h => by cases h; rfl) rfl rfl dX9_init_294 (fun S98 => ?_)
  refine sn_aload_n hO 0 rfl dX9_init_297 ?_
  refine sn_bipush hO kb_6 dX9_init_298 ?_
  refine sn_newa (t := 0) (N := 6) hO .int (.inl (fun _ => 0)) q182 rfl rfl (fun _ => rfl) (by decide) (by decide) (Nat.le_of_ble_eq_true rfl) dX9_init_300 (fun a99 S100 => ?_)
  refine sn_oputF hO fX9_117 (fun _ _ _ h => by cases h; rfl) rfl rfl dX9_init_302 (fun S101 => ?_)
  refine sn_aload_n hO 0 rfl dX9_init_305 ?_
  refine sn_iconst hO kc_5 dX9_init_306 ?_
  refine sn_newa (t := 0) (N := 5) hO .int (.inl (fun _ => 0)) q182 rfl rfl (fun _ => rfl) (by decide) (by decide) (Nat.le_of_ble_eq_true rfl) dX9_init_307 (fun a102 S103 => ?_)
  refine sn_oputF hO fX9_120 (fun _ _ _ h => by cases h; rfl) rfl rfl dX9_init_309 (fun S104 => ?_)
  refine sn_aload_n hO 0 rfl dX9_init_312 ?_
  refine sn_iconst hO kc_5 dX9_init_313 ?_
  refine sn_newa (t := 0) (N := 5) hO .int (.inl (fun _ => 0)) q182 rfl rfl (fun _ => rfl) (by decide) (by decide) (Nat.le_of_ble_eq_true rfl) dX9_init_314 (fun a105 S106 => ?_)
  refine sn_oputF hO fX9_123 (fun _ _ _ h => by cases h; rfl) rfl rfl dX9_init_316 (fun S107 => ?_)
  refine sn_aload_n hO 0 rfl dX9_init_319 ?_
  refine sn_bipush hO kb_6 dX9_init_320 ?_
  refine sn_newa (t := 0) (N := 6) hO .int (.inl (fun _ => 0)) q182 rfl rfl (fun _ => rfl) (by decide) (by decide) (Nat.le_of_ble_eq_true rfl) dX9_init_322 (fun a108 S109 => ?_)
  refine sn_oputF hO fX9_126 (fun _ _ _ h => by cases h; rfl) rfl rfl dX9_init_324 (fun S110 => ?_)
  refine sn_aload_n hO 0 rfl dX9_init_327 ?_
  refine sn_bipush hO kb_8 dX9_init_328 ?_
  refine sn_newa (t := 0) (N := 8) hO .int (.inl (fun _ => 0)) q182 rfl rfl (fun _ => rfl) (by decide) (by decide) (Nat.le_of_ble_eq_true rfl) dX9_init_330 (fun a111 S112 => ?_)
  refine sn_oputF hO fX9_129 (fun _ _ _ h => by cases h; rfl) rfl rfl dX9_init_332 (fun S113 => ?_)
  refine sn_aload_n hO 0 rfl dX9_init_335 ?_
  refine sn_bipush hO kb_64 dX9_init_336 ?_
  refine sn_newa (t := 0) (N := 64) hO .int (.inl (fun _ => 0)) q182 rfl rfl (fun _ => rfl) (by decide) (by decide) (Nat.le_of_ble_eq_true rfl) dX9_init_338 (fun a114 S115 => ?_)
  refine sn_oputF hO fX9_132 (fun _ _ _ h => by cases h; rfl) rfl rfl dX9_init_340 (fun S116 => ?_)
  refine sn_aload_n hO 0 rfl dX9_init_343 ?_
  refine sn_bipush hO kb_64 dX9_init_344 ?_
  refine sn_newa (t := 0) (N := 64) hO .int (.inl (fun _ => 0)) q182 rfl rfl (fun _ => rfl) (by decide) (by decide) (Nat.le_of_ble_eq_true rfl) dX9_init_346 (fun a117 S118 => ?_)
  refine sn_oputF hO fX9_135 (fun _ _ _ h => by cases h; rfl) rfl rfl dX9_init_348 (fun S119 => ?_)
  refine sn_aload_n hO 0 rfl dX9_init_351 ?_
  refine sn_bipush hO kb_64 dX9_init_352 ?_
  refine sn_newa (t := 0) (N := 64) hO .int (.inl (fun _ => 0)) q182 rfl rfl (fun _ => rfl) (by decide) (by decide) (Nat.le_of_ble_eq_true rfl) dX9_init_354 (fun a120 S121 => ?_)
  refine sn_oputF hO fX9_138 (fun _ _ _ h => by cases h; rfl) rfl rfl dX9_init_356 (fun S122 => ?_)
  refine sn_aload_n hO 0 rfl dX9_init_359 ?_
  refine sn_bipush hO kb_6 dX9_init_360 ?_
  refine sn_newa (t := 0) (N := 6) hO .int (.inl (fun _ => 0)) q182 rfl rfl (fun _ => rfl) (by decide) (by decide) (Nat.le_of_ble_eq_true rfl) dX9_init_362 (fun a123 S124 => ?_)
  refine sn_oputF hO fX9_141 (fun _ _ _ h => by cases h; rfl) rfl rfl dX9_init_364 (fun S125 => ?_)
  refine sn_aload_n hO 0 rfl dX9_init_367 ?_
  refine sn_bipush hO kb_6 dX9_init_368 ?_
  refine sn_newa (t := 0) (N := 6) hO .int (.inl (fun _ => 0)) q182 rfl rfl (fun _ => rfl) (by decide) (by decide) (Nat.le_of_ble_eq_true rfl) dX9_init_370 (fun a126 S127 => ?_)
  refine sn_oputF hO fX9_144 (fun _ _ _ h => by cases h; rfl) rfl rfl dX9_init_372 (fun S128 => ?_)
  refine sn_aload_n hO 0 rfl dX9_init_375 ?_
  refine sn_bipush hO kb_6 dX9_init_376 ?_
  refine sn_newa (t := 0) (N := 6) hO .int (.inl (fun _ => 0)) q182 rfl rfl (fun _ => rfl) (by decide) (by decide) (Nat.le_of_ble_eq_true rfl) dX9_init_378 (fun a129 S130 => ?_)
  refine sn_oputF hO fX9_147 (fun _ _ _ h => by cases h; rfl) rfl rfl dX9_init_380 (fun S131 => ?_)
  refine sn_aload_n hO 0 rfl dX9_init_383 ?_
  refine sn_ogetQ hO fX9_13 dX9_init_384 (fun q132 => ?_)
  refine sn_deref (fun a133 => ?_)
  refine sn_iconst hO kc_3 dX9_init_387 ?_
  refine sn_iconst hO kc_m1 dX9_init_388 ?_
  refine sn_oiast hO rfl dX9_init_389 (fun S134 => ?_)
  refine sn_aload_n hO 0 rfl dX9_init_390 ?_
  refine sn_ogetQ hO fX9_13 dX9_init_391 (fun q135 => ?_)
  refine sn_deref (fun a136 => ?_)
  refine sn_iconst hO kc_5 dX9_init_394 ?_
  refine sn_iconst hO kc_1 dX9_init_395 ?_
  refine sn_oiast hO rfl dX9_init_396 (fun S137 => ?_)
  refine sn_aload_n hO 0 rfl dX9_init_397 ?_
  refine sn_ogetQ hO fX9_13 dX9_init_398 (fun q138 => ?_)
  refine sn_deref (fun a139 => ?_)
  refine sn_bipush hO kb_6 dX9_init_401 ?_
  refine sn_bipush hO kb_9 dX9_init_403 ?_
  refine sn_oiast hO rfl dX9_init_405 (fun S140 => ?_)
  refine sn_iconst hO kc_0 dX9_init_406 ?_
  refine sn_istore_n hO (lv' := [(1, .int 0), (0, .ref a0)]) (by decide) rfl dX9_init_407 ?_
  refine sn_sub [1, 0] rfl ?_
  refine sn_lp4_walk (Gd := fun (i141 : Int32) (m143 : Nat) (m144 : Nat) (S142 : sn_S) => sn_G (LoN n) w (rmX9_init mc ms) Qq sn_noE C m143 m144 408 [(0, .ref a0), (1, .int i141)] [] S142) ?_ _ _ _ _
  intro rc145 hrc145 i141 m143 m144 S142
  refine sn_iload_n hO 1 rfl dX9_init_408 ?_
  refine sn_iconst hO kc_5 dX9_init_409 ?_
  refine sn_icmp_ge hO 429 (by decide) dX9_init_410 ?_ ?_
  · subst hQq
    exact sn_vret hO rfl dX9_init_429
  · refine sn_aload_n hO 0 rfl dX9_init_413 ?_
    refine sn_ogetQ hO fX9_13 dX9_init_414 (fun q146 => ?_)
    refine sn_deref (fun a147 => ?_)
    refine sn_bipush hO kb_7 dX9_init_417 ?_
    refine sn_iload_n hO 1 rfl dX9_init_419 ?_
    refine sn_iadd hO dX9_init_420 ?_
    refine sn_iconst hO kc_m1 dX9_init_421 ?_
    refine sn_oiast hO rfl dX9_init_422 (fun S148 => ?_)
    refine sn_iinc hO (lv' := [(1, .int (i141 + 1)), (0, .ref a0)]) 1 rfl ki_1 (by decide) rfl dX9_init_423 ?_
    refine sn_goto hO 408 (by decide) dX9_init_426 ?_
    refine sn_sub [1, 0] rfl ?_
    exact hrc145 _ _ _ _
theorem ctX9_init {w : sn_W} {n : Nat} {a0 : Nat} {S : sn_S} {mc : Nat} {ms : Nat} {Q : sn_S → Prop} (h : wpX9_init w a0 S mc ms Q) : sn_Ct (LoN n) w yX9_init (ws_ yX9_init cX9_init 2 none) (rmX9_init mc ms) [.ref a0] S (sn_qV Q) sn_noE := sn_Ct_of (XX_O w) (by decide) (Nat.le_of_ble_eq_true rfl) RX9 rfl (fun C hO => wkX9_init hO a0 S mc ms Q h)
