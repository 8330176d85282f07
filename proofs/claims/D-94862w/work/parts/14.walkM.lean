/-! SnailPostModel: what its methods do, in plain Lean (wp..), the walks (wk..), the contracts (ct..) -/
set_option maxRecDepth 100000
def rmX9_in : Room := { frames := 0, cells := 0, slots := 0, locals := 0 }
/-- SnailPostModel.in(JJJ)Z -/
def wpX9_in (p1 : Int64) (p2 : Int64) (p3 : Int64) (Q : Int32 → Prop) : Prop :=
  (((lg_cmp p1 p2) < 0 → Q 0) ∧ (¬ (lg_cmp p1 p2) < 0 → ((0 < (lg_cmp p1 p3) → Q 0) ∧ (¬ 0 < (lg_cmp p1 p3) → Q 1))))
theorem wkX9_in {w : sn_W} {C : sn_C} (hO : sn_Ok LoM w C RX9 cX9_in 6 (some .boolean) [] "in") (p1 : Int64) (p2 : Int64) (p3 : Int64) (S : sn_S) (Q : Int32 → Prop) : wpX9_in p1 p2 p3 Q → sn_G LoM w rmX9_in (sn_qI (fun r S1 => S1 = S ∧ Q r)) sn_noE C 0 0 0 [(0, .long p1), (2, .long p2), (4, .long p3)] [] S := by
  unfold wpX9_in
  generalize hQq : (sn_qI (fun r S1 => S1 = S ∧ Q r)) = Qq
  refine sn_lload_n hO 0 rfl dX9_in_0 ?_
  refine sn_lload_n hO 1 rfl dX9_in_1 ?_
  refine sn_lcmp hO dX9_in_2 ?_
  refine sn_if_lt hO 17 (by decide) dX9_in_3 ?_ ?_
  · refine sn_iconst hO kc_0 dX9_in_17 ?_
    subst hQq
    exact fun h => sn_zret hO (ty := .boolean) rfl rfl dX9_in_18 ⟨rfl, h⟩
  · refine sn_lload_n hO 0 rfl dX9_in_6 ?_
    refine sn_lload hO 2 rfl dX9_in_7 ?_
    refine sn_lcmp hO dX9_in_9 ?_
    refine sn_if_gt hO 17 (by decide) dX9_in_10 ?_ ?_
    · refine sn_iconst hO kc_0 dX9_in_17 ?_
      subst hQq
      exact fun h => sn_zret hO (ty := .boolean) rfl rfl dX9_in_18 ⟨rfl, h⟩
    · refine sn_iconst hO kc_1 dX9_in_13 ?_
      refine sn_goto hO 18 (by decide) dX9_in_14 ?_
      subst hQq
      exact fun h => sn_zret hO (ty := .boolean) rfl rfl dX9_in_18 ⟨rfl, h⟩
theorem ctX9_in {w : sn_W} {p1 : Int64} {p2 : Int64} {p3 : Int64} {S : sn_S} {Q : Int32 → Prop} (h : wpX9_in p1 p2 p3 Q) : sn_Ct LoM w yX9_in (ws_ yX9_in cX9_in 6 (some .boolean)) rmX9_in [.long p1, .long p2, .long p3] S (sn_qI (fun r S1 => S1 = S ∧ Q r)) sn_noE := sn_Ct_of (LoM_X w) (by decide) (Nat.le_of_ble_eq_true rfl) RX9 rfl (fun C hO => wkX9_in hO p1 p2 p3 S Q h)
def rmX9_tell : Room := { frames := 0, cells := 0, slots := 0, locals := 0 }
/-- SnailPostModel.tell(I)I -/
def wpX9_tell (p1 : Int32) (S : sn_S) (Q : Int32 → sn_S → Prop) : Prop :=
  sn_jn (fun (v1 : Int32) => sn_lt (sn_pI S 0 1 v1) (fun S3 => ((0 ≤ p1 → Q p1 S3) ∧ (¬ 0 ≤ p1 → (vp_in (-p1) 7 ∧ (vp_in (-p1) 7 ∧ sn_lt (sn_pI S3 1 ((-p1)).toNatClampNeg ((S3.1 1 ((-p1)).toNatClampNeg) + 1)) (fun S4 => Q p1 S4))))))) (fun (k2 : Int32 → Prop) => ((0 ≤ p1 → k2 0) ∧ (¬ 0 ≤ p1 → k2 p1)))
theorem wkX9_tell {w : sn_W} {C : sn_C} (hO : sn_Ok LoM w C RX9 cX9_tell 2 (some .int) [] "tell") (p1 : Int32) (S : sn_S) (Q : Int32 → sn_S → Prop) : wpX9_tell p1 S Q → sn_G LoM w rmX9_tell (sn_qI Q) sn_noE C 0 0 0 [(0, .ref (w.2.2.1 0)), (1, .int p1)] [] S := by
  unfold wpX9_tell
  generalize hQq : (sn_qI Q) = Qq
  refine sn_aload_n hO 0 rfl dX9_tell_0 ?_
  refine sn_iload_n hO 1 rfl dX9_tell_1 ?_
  refine sn_jn_walk (fun (k : Int32 → Prop) => ∀ (v1 : Int32), k v1 → sn_G LoM w rmX9_tell Qq sn_noE C 0 0 10 [(0, .ref (w.2.2.1 0)), (1, .int p1)] [.int v1, .ref (w.2.2.1 0)] S) ?_ ?_
  · intro v1
    refine sn_putI hO fmX9_153 atM_0 rfl rfl dX9_tell_10 ?_
    refine sn_nmS (fun S3 => ?_)
    refine sn_iload_n hO 1 rfl dX9_tell_13 ?_
    refine sn_if_ge hO 28 (by decide) dX9_tell_14 ?_ ?_
    · refine sn_iload_n hO 1 rfl dX9_tell_28 ?_
      subst hQq
      exact sn_iret hO rfl dX9_tell_29
    · refine sn_aload_n hO 0 rfl dX9_tell_17 ?_
      refine sn_getF hO fmX9_7 atM_0 dX9_tell_18 ?_
      refine sn_iload_n hO 1 rfl dX9_tell_21 ?_
      refine sn_ineg hO dX9_tell_22 ?_
      refine sn_dup2 hO rfl rfl dX9_tell_23 ?_
      refine sn_iald hO atM_1 rfl dX9_tell_24 ?_
      refine sn_iconst hO kc_1 dX9_tell_25 ?_
      refine sn_iadd hO dX9_tell_26 ?_
      refine sn_iast hO atM_1 rfl dX9_tell_27 ?_
      refine sn_nmS (fun S4 => ?_)
      refine sn_iload_n hO 1 rfl dX9_tell_28 ?_
      subst hQq
      exact sn_iret hO rfl dX9_tell_29
  · intro k2 hk2
    refine sn_if_ge hO 9 (by decide) dX9_tell_2 ?_ ?_
    · refine sn_iconst hO kc_0 dX9_tell_9 ?_
      exact hk2 _
    · refine sn_iload_n hO 1 rfl dX9_tell_5 ?_
      refine sn_goto hO 10 (by decide) dX9_tell_6 ?_
      exact hk2 _
theorem ctX9_tell {w : sn_W} {p1 : Int32} {S : sn_S} {Q : Int32 → sn_S → Prop} (h : wpX9_tell p1 S Q) : sn_Ct LoM w yX9_tell (ws_ yX9_tell cX9_tell 2 (some .int)) rmX9_tell [.ref (w.2.2.1 0), .int p1] S (sn_qI Q) sn_noE := sn_Ct_of (LoM_X w) (by decide) (Nat.le_of_ble_eq_true rfl) RX9 rfl (fun C hO => wkX9_tell hO p1 S Q h)
def rmX9_image : Room := { frames := 1, cells := 0, slots := 0, locals := 25 }
/-- SnailPostModel.image(I)I -/
def wpX9_image (p1 : Int32) (S : sn_S) (Q : Int32 → sn_S → Prop) : Prop :=
  sn_lt (sn_pI S 0 0 0) (fun S1 => wpX9_in (Int32.toInt64 p1) 0 1 (fun (r2 : Int32) => ((¬ r2 = 0 → sn_jn (fun (S3 : sn_S) => (vp_in p1 2 ∧ sn_lt (sn_pI S3 4 (p1).toNatClampNeg (vp_nar .boolean 1)) (fun S5 => wpX9_tell 0 S5 (fun (r6 : Int32) (S7 : sn_S) => Q r6 S7)))) (fun (k4 : sn_S → Prop) => sn_lp2 (fun (rc10 : Int32 → sn_S → Prop) (i8 : Int32) (S9 : sn_S) => ((5680 ≤ i8 → k4 S9) ∧ (¬ 5680 ≤ i8 → (vp_in i8 5680 ∧ (vp_in ((5680 * p1) + i8) 11360 ∧ sn_lt (sn_pI S9 3 (((5680 * p1) + i8)).toNatClampNeg (S9.1 2 (i8).toNatClampNeg)) (fun S11 => rc10 (i8 + 1) S11)))))) 0 S1)) ∧ (r2 = 0 → wpX9_tell (-1) S1 (fun (r12 : Int32) (S13 : sn_S) => Q r12 S13)))))
theorem wkX9_image {w : sn_W} {C : sn_C} (hO : sn_Ok LoM w C RX9 cX9_image 3 (some .int) [] "image") (p1 : Int32) (S : sn_S) (Q : Int32 → sn_S → Prop) : wpX9_image p1 S Q → sn_G LoM w rmX9_image (sn_qI Q) sn_noE C 0 0 0 [(0, .ref (w.2.2.1 0)), (1, .int p1)] [] S := by
  unfold wpX9_image
  generalize hQq : (sn_qI Q) = Qq
  refine sn_aload_n hO 0 rfl dX9_image_0 ?_
  refine sn_iconst hO kc_0 dX9_image_1 ?_
  refine sn_putI hO fmX9_150 atM_0 rfl rfl dX9_image_2 ?_
  refine sn_nmS (fun S1 => ?_)
  refine sn_iload_n hO 1 rfl dX9_image_5 ?_
  refine sn_i2l hO dX9_image_6 ?_
  refine sn_lconst hO (v := 0) rfl dX9_image_7 ?_
  refine sn_lconst hO (v := 1) rfl dX9_image_8 ?_
  refine sn_callS hO (c2 := 0) (s2 := 0) [.long (Int32.toInt64 p1), .long 0, .long 1] csX9_160 ctX9_in ⟨Nat.le_of_ble_eq_true rfl, Nat.le_of_ble_eq_true rfl⟩ rfl rfl (Nat.le_of_ble_eq_true rfl) ⟨Nat.le_of_ble_eq_true rfl, Nat.le_of_ble_eq_true rfl, rfl, rfl⟩ dX9_image_9 (sn_bIp (fun r2 => ?_)) sn_x0
  refine sn_if_ne hO 21 (by decide) dX9_image_12 ?_ ?_
  · refine sn_iconst hO kc_0 dX9_image_21 ?_
    refine sn_istore_n hO (lv' := [(2, .int 0), (0, .ref (w.2.2.1 0)), (1, .int p1)]) (by decide) rfl dX9_image_22 ?_
    refine sn_jn_walk (fun (k : sn_S → Prop) => ∀ (S3 : sn_S), k S3 → sn_G LoM w rmX9_image Qq sn_noE C 0 0 54 [(0, .ref (w.2.2.1 0)), (1, .int p1)] [] S3) ?_ ?_
    · intro S3
      refine sn_aload_n hO 0 rfl dX9_image_54 ?_
      refine sn_getF hO fmX9_19 atM_0 dX9_image_55 ?_
      refine sn_iload_n hO 1 rfl dX9_image_58 ?_
      refine sn_iconst hO kc_1 dX9_image_59 ?_
      refine sn_zast hO atM_4 rfl dX9_image_60 ?_
      refine sn_nmS (fun S5 => ?_)
      refine sn_aload_n hO 0 rfl dX9_image_61 ?_
      refine sn_iconst hO kc_0 dX9_image_62 ?_
      refine sn_callV hO (c2 := 0) (s2 := 0) [.int 0] cvX9_164 (fun _ => sn_Rv_K atM_0) ctX9_tell ⟨Nat.le_of_ble_eq_true rfl, Nat.le_of_ble_eq_true rfl⟩ rfl rfl (Nat.le_of_ble_eq_true rfl) ⟨Nat.le_of_ble_eq_true rfl, Nat.le_of_ble_eq_true rfl, rfl, rfl⟩ dX9_image_63 (sn_bI (fun r6 S7 => ?_)) sn_x0
      subst hQq
      exact sn_iret hO rfl dX9_image_66
    · intro k4 hk4
      refine sn_sub [1, 2, 0] rfl ?_
      refine sn_lp2_walk (Gd := fun (i8 : Int32) (S9 : sn_S) => sn_G LoM w rmX9_image Qq sn_noE C 0 0 23 [(0, .ref (w.2.2.1 0)), (1, .int p1), (2, .int i8)] [] S9) ?_ _ _
      intro rc10 hrc10 i8 S9
      refine sn_iload_n hO 2 rfl dX9_image_23 ?_
      refine sn_sipush hO ks_5680 dX9_image_24 ?_
      refine sn_icmp_ge hO 54 (by decide) dX9_image_27 ?_ ?_
      · refine sn_sub [0, 1] rfl ?_
        exact hk4 _
      · refine sn_aload_n hO 0 rfl dX9_image_30 ?_
        refine sn_getF hO fmX9_16 atM_0 dX9_image_31 ?_
        refine sn_sipush hO ks_5680 dX9_image_34 ?_
        refine sn_iload_n hO 1 rfl dX9_image_37 ?_
        refine sn_imul hO dX9_image_38 ?_
        refine sn_iload_n hO 2 rfl dX9_image_39 ?_
        refine sn_iadd hO dX9_image_40 ?_
        refine sn_aload_n hO 0 rfl dX9_image_41 ?_
        refine sn_getF hO fmX9_13 atM_0 dX9_image_42 ?_
        refine sn_iload_n hO 2 rfl dX9_image_45 ?_
        refine sn_iald hO atM_2 rfl dX9_image_46 ?_
        refine sn_iast hO atM_3 rfl dX9_image_47 ?_
        refine sn_nmS (fun S11 => ?_)
        refine sn_iinc hO (lv' := [(2, .int (i8 + 1)), (0, .ref (w.2.2.1 0)), (1, .int p1)]) 2 rfl ki_1 (by decide) rfl dX9_image_48 ?_
        refine sn_goto hO 23 (by decide) dX9_image_51 ?_
        refine sn_sub [1, 2, 0] rfl ?_
        exact hrc10 _ _
  · refine sn_aload_n hO 0 rfl dX9_image_15 ?_
    refine sn_iconst hO kc_m1 dX9_image_16 ?_
    refine sn_callV hO (c2 := 0) (s2 := 0) [.int (-1)] cvX9_164 (fun _ => sn_Rv_K atM_0) ctX9_tell ⟨Nat.le_of_ble_eq_true rfl, Nat.le_of_ble_eq_true rfl⟩ rfl rfl (Nat.le_of_ble_eq_true rfl) ⟨Nat.le_of_ble_eq_true rfl, Nat.le_of_ble_eq_true rfl, rfl, rfl⟩ dX9_image_17 (sn_bI (fun r12 S13 => ?_)) sn_x0
    subst hQq
    exact sn_iret hO rfl dX9_image_20
theorem ctX9_image {w : sn_W} {p1 : Int32} {S : sn_S} {Q : Int32 → sn_S → Prop} (h : wpX9_image p1 S Q) : sn_Ct LoM w yX9_image (ws_ yX9_image cX9_image 3 (some .int)) rmX9_image [.ref (w.2.2.1 0), .int p1] S (sn_qI Q) sn_noE := sn_Ct_of (LoM_X w) (by decide) (Nat.le_of_ble_eq_true rfl) RX9 rfl (fun C hO => wkX9_image hO p1 S Q h)
def rmX9_back : Room := { frames := 1, cells := 0, slots := 0, locals := 25 }
/-- SnailPostModel.back(I)I -/
def wpX9_back (p1 : Int32) (S : sn_S) (Q : Int32 → sn_S → Prop) : Prop :=
  sn_lt (sn_pI S 0 0 0) (fun S1 => wpX9_in (Int32.toInt64 p1) 0 1 (fun (r2 : Int32) => ((¬ r2 = 0 → (vp_in p1 2 ∧ ((¬ (S1.1 4 (p1).toNatClampNeg) = 0 → sn_jn (fun (S3 : sn_S) => wpX9_tell 0 S3 (fun (r5 : Int32) (S6 : sn_S) => Q r5 S6)) (fun (k4 : sn_S → Prop) => sn_lp2 (fun (rc9 : Int32 → sn_S → Prop) (i7 : Int32) (S8 : sn_S) => ((5680 ≤ i7 → k4 S8) ∧ (¬ 5680 ≤ i7 → (vp_in ((5680 * p1) + i7) 11360 ∧ (vp_in i7 5680 ∧ sn_lt (sn_pI S8 2 (i7).toNatClampNeg (S8.1 3 (((5680 * p1) + i7)).toNatClampNeg)) (fun S10 => rc9 (i7 + 1) S10)))))) 0 S1)) ∧ ((S1.1 4 (p1).toNatClampNeg) = 0 → wpX9_tell (-2) S1 (fun (r11 : Int32) (S12 : sn_S) => Q r11 S12))))) ∧ (r2 = 0 → wpX9_tell (-1) S1 (fun (r13 : Int32) (S14 : sn_S) => Q r13 S14)))))
theorem wkX9_back {w : sn_W} {C : sn_C} (hO : sn_Ok LoM w C RX9 cX9_back 3 (some .int) [] "back") (p1 : Int32) (S : sn_S) (Q : Int32 → sn_S → Prop) : wpX9_back p1 S Q → sn_G LoM w rmX9_back (sn_qI Q) sn_noE C 0 0 0 [(0, .ref (w.2.2.1 0)), (1, .int p1)] [] S := by
  unfold wpX9_back
  generalize hQq : (sn_qI Q) = Qq
  refine sn_aload_n hO 0 rfl dX9_back_0 ?_
  refine sn_iconst hO kc_0 dX9_back_1 ?_
  refine sn_putI hO fmX9_150 atM_0 rfl rfl dX9_back_2 ?_
  refine sn_nmS (fun S1 => ?_)
  refine sn_iload_n hO 1 rfl dX9_back_5 ?_
  refine sn_i2l hO dX9_back_6 ?_
  refine sn_lconst hO (v := 0) rfl dX9_back_7 ?_
  refine sn_lconst hO (v := 1) rfl dX9_back_8 ?_
  refine sn_callS hO (c2 := 0) (s2 := 0) [.long (Int32.toInt64 p1), .long 0, .long 1] csX9_160 ctX9_in ⟨Nat.le_of_ble_eq_true rfl, Nat.le_of_ble_eq_true rfl⟩ rfl rfl (Nat.le_of_ble_eq_true rfl) ⟨Nat.le_of_ble_eq_true rfl, Nat.le_of_ble_eq_true rfl, rfl, rfl⟩ dX9_back_9 (sn_bIp (fun r2 => ?_)) sn_x0
  refine sn_if_ne hO 21 (by decide) dX9_back_12 ?_ ?_
  · refine sn_aload_n hO 0 rfl dX9_back_21 ?_
    refine sn_getF hO fmX9_19 atM_0 dX9_back_22 ?_
    refine sn_iload_n hO 1 rfl dX9_back_25 ?_
    refine sn_zald hO atM_4 rfl dX9_back_26 ?_
    refine sn_if_ne hO 37 (by decide) dX9_back_27 ?_ ?_
    · refine sn_iconst hO kc_0 dX9_back_37 ?_
      refine sn_istore_n hO (lv' := [(2, .int 0), (0, .ref (w.2.2.1 0)), (1, .int p1)]) (by decide) rfl dX9_back_38 ?_
      refine sn_jn_walk (fun (k : sn_S → Prop) => ∀ (S3 : sn_S), k S3 → sn_G LoM w rmX9_back Qq sn_noE C 0 0 70 [(0, .ref (w.2.2.1 0))] [] S3) ?_ ?_
      · intro S3
        refine sn_aload_n hO 0 rfl dX9_back_70 ?_
        refine sn_iconst hO kc_0 dX9_back_71 ?_
        refine sn_callV hO (c2 := 0) (s2 := 0) [.int 0] cvX9_164 (fun _ => sn_Rv_K atM_0) ctX9_tell ⟨Nat.le_of_ble_eq_true rfl, Nat.le_of_ble_eq_true rfl⟩ rfl rfl (Nat.le_of_ble_eq_true rfl) ⟨Nat.le_of_ble_eq_true rfl, Nat.le_of_ble_eq_true rfl, rfl, rfl⟩ dX9_back_72 (sn_bI (fun r5 S6 => ?_)) sn_x0
        subst hQq
        exact sn_iret hO rfl dX9_back_75
      · intro k4 hk4
        refine sn_sub [1, 2, 0] rfl ?_
        refine sn_lp2_walk (Gd := fun (i7 : Int32) (S8 : sn_S) => sn_G LoM w rmX9_back Qq sn_noE C 0 0 39 [(0, .ref (w.2.2.1 0)), (1, .int p1), (2, .int i7)] [] S8) ?_ _ _
        intro rc9 hrc9 i7 S8
        refine sn_iload_n hO 2 rfl dX9_back_39 ?_
        refine sn_sipush hO ks_5680 dX9_back_40 ?_
        refine sn_icmp_ge hO 70 (by decide) dX9_back_43 ?_ ?_
        · refine sn_sub [0] rfl ?_
          exact hk4 _
        · refine sn_aload_n hO 0 rfl dX9_back_46 ?_
          refine sn_getF hO fmX9_13 atM_0 dX9_back_47 ?_
          refine sn_iload_n hO 2 rfl dX9_back_50 ?_
          refine sn_aload_n hO 0 rfl dX9_back_51 ?_
          refine sn_getF hO fmX9_16 atM_0 dX9_back_52 ?_
          refine sn_sipush hO ks_5680 dX9_back_55 ?_
          refine sn_iload_n hO 1 rfl dX9_back_58 ?_
          refine sn_imul hO dX9_back_59 ?_
          refine sn_iload_n hO 2 rfl dX9_back_60 ?_
          refine sn_iadd hO dX9_back_61 ?_
          refine sn_iald hO atM_3 rfl dX9_back_62 ?_
          refine sn_iast hO atM_2 rfl dX9_back_63 ?_
          refine sn_nmS (fun S10 => ?_)
          refine sn_iinc hO (lv' := [(2, .int (i7 + 1)), (0, .ref (w.2.2.1 0)), (1, .int p1)]) 2 rfl ki_1 (by decide) rfl dX9_back_64 ?_
          refine sn_goto hO 39 (by decide) dX9_back_67 ?_
          refine sn_sub [1, 2, 0] rfl ?_
          exact hrc9 _ _
    · refine sn_aload_n hO 0 rfl dX9_back_30 ?_
      refine sn_bipush hO kb_m2 dX9_back_31 ?_
      refine sn_callV hO (c2 := 0) (s2 := 0) [.int (-2)] cvX9_164 (fun _ => sn_Rv_K atM_0) ctX9_tell ⟨Nat.le_of_ble_eq_true rfl, Nat.le_of_ble_eq_true rfl⟩ rfl rfl (Nat.le_of_ble_eq_true rfl) ⟨Nat.le_of_ble_eq_true rfl, Nat.le_of_ble_eq_true rfl, rfl, rfl⟩ dX9_back_33 (sn_bI (fun r11 S12 => ?_)) sn_x0
      subst hQq
      exact sn_iret hO rfl dX9_back_36
  · refine sn_aload_n hO 0 rfl dX9_back_15 ?_
    refine sn_iconst hO kc_m1 dX9_back_16 ?_
    refine sn_callV hO (c2 := 0) (s2 := 0) [.int (-1)] cvX9_164 (fun _ => sn_Rv_K atM_0) ctX9_tell ⟨Nat.le_of_ble_eq_true rfl, Nat.le_of_ble_eq_true rfl⟩ rfl rfl (Nat.le_of_ble_eq_true rfl) ⟨Nat.le_of_ble_eq_true rfl, Nat.le_of_ble_eq_true rfl, rfl, rfl⟩ dX9_back_17 (sn_bI (fun r13 S14 => ?_)) sn_x0
    subst hQq
    exact sn_iret hO rfl dX9_back_20
theorem ctX9_back {w : sn_W} {p1 : Int32} {S : sn_S} {Q : Int32 → sn_S → Prop} (h : wpX9_back p1 S Q) : sn_Ct LoM w yX9_back (ws_ yX9_back cX9_back 3 (some .int)) rmX9_back [.ref (w.2.2.1 0), .int p1] S (sn_qI Q) sn_noE := sn_Ct_of (LoM_X w) (by decide) (Nat.le_of_ble_eq_true rfl) RX9 rfl (fun C hO => wkX9_back hO p1 S Q h)
def rmX9_isCell : Room := { frames := 1, cells := 0, slots := 0, locals := 25 }
/-- SnailPostModel.isCell(I)Z -/
def wpX9_isCell (p1 : Int32) (Q : Int32 → Prop) : Prop :=
  wpX9_in (Int32.toInt64 p1) 0 95 (fun (r1 : Int32) => (narrow .boolean (.int r1) = .int r1 ∧ Q r1))
theorem wkX9_isCell {w : sn_W} {C : sn_C} (hO : sn_Ok LoM w C RX9 cX9_isCell 1 (some .boolean) [] "isCell") (p1 : Int32) (S : sn_S) (Q : Int32 → Prop) : wpX9_isCell p1 Q → sn_G LoM w rmX9_isCell (sn_qI (fun r S1 => S1 = S ∧ Q r)) sn_noE C 0 0 0 [(0, .int p1)] [] S := by
  unfold wpX9_isCell
  generalize hQq : (sn_qI (fun r S1 => S1 = S ∧ Q r)) = Qq
  refine sn_iload_n hO 0 rfl dX9_isCell_0 ?_
  refine sn_i2l hO dX9_isCell_1 ?_
  refine sn_lconst hO (v := 0) rfl dX9_isCell_2 ?_
  refine sn_ldc2 hO q1656 dX9_isCell_3 ?_
  refine sn_callS hO (c2 := 0) (s2 := 0) [.long (Int32.toInt64 p1), .long 0, .long 95] csX9_160 ctX9_in ⟨Nat.le_of_ble_eq_true rfl, Nat.le_of_ble_eq_true rfl⟩ rfl rfl (Nat.le_of_ble_eq_true rfl) ⟨Nat.le_of_ble_eq_true rfl, Nat.le_of_ble_eq_true rfl, rfl, rfl⟩ dX9_isCell_6 (sn_bIp (fun r1 => ?_)) sn_x0
  subst hQq
  exact fun h => sn_zretP hO rfl dX9_isCell_9 ⟨h.1, rfl, h.2⟩
theorem ctX9_isCell {w : sn_W} {p1 : Int32} {S : sn_S} {Q : Int32 → Prop} (h : wpX9_isCell p1 Q) : sn_Ct LoM w yX9_isCell (ws_ yX9_isCell cX9_isCell 1 (some .boolean)) rmX9_isCell [.int p1] S (sn_qI (fun r S1 => S1 = S ∧ Q r)) sn_noE := sn_Ct_of (LoM_X w) (by decide) (Nat.le_of_ble_eq_true rfl) RX9 rfl (fun C hO => wkX9_isCell hO p1 S Q h)
def rmX9_was : Room := { frames := 0, cells := 0, slots := 0, locals := 0 }
/-- SnailPostModel.was(I)I -/
def wpX9_was (p1 : Int32) (S : sn_S) (Q : Int32 → sn_S → Prop) : Prop :=
  sn_lt (sn_pI S 0 1 0) (fun S1 => Q p1 S1)
theorem wkX9_was {w : sn_W} {C : sn_C} (hO : sn_Ok LoM w C RX9 cX9_was 2 (some .int) [] "was") (p1 : Int32) (S : sn_S) (Q : Int32 → sn_S → Prop) : wpX9_was p1 S Q → sn_G LoM w rmX9_was (sn_qI Q) sn_noE C 0 0 0 [(0, .ref (w.2.2.1 0)), (1, .int p1)] [] S := by
  unfold wpX9_was
  generalize hQq : (sn_qI Q) = Qq
  refine sn_aload_n hO 0 rfl dX9_was_0 ?_
  refine sn_iconst hO kc_0 dX9_was_1 ?_
  refine sn_putI hO fmX9_153 atM_0 rfl rfl dX9_was_2 ?_
  refine sn_nmS (fun S1 => ?_)
  refine sn_iload_n hO 1 rfl dX9_was_5 ?_
  subst hQq
  exact sn_iret hO rfl dX9_was_6
theorem ctX9_was {w : sn_W} {p1 : Int32} {S : sn_S} {Q : Int32 → sn_S → Prop} (h : wpX9_was p1 S Q) : sn_Ct LoM w yX9_was (ws_ yX9_was cX9_was 2 (some .int)) rmX9_was [.ref (w.2.2.1 0), .int p1] S (sn_qI Q) sn_noE := sn_Ct_of (LoM_X w) (by decide) (Nat.le_of_ble_eq_true rfl) RX9 rfl (fun C hO => wkX9_was hO p1 S Q h)
def rmX9_change : Room := { frames := 1, cells := 0, slots := 0, locals := 21 }
/-- SnailPostModel.change(II)I -/
def wpX9_change (p1 : Int32) (p2 : Int32) (S : sn_S) (Q : Int32 → sn_S → Prop) : Prop :=
  (vp_in p1 5680 ∧ sn_lt (S.1 2 (p1).toNatClampNeg) (fun x1 => (vp_in p1 5680 ∧ sn_lt (sn_pI S 2 (p1).toNatClampNeg p2) (fun S2 => wpX9_was x1 S2 (fun (r3 : Int32) (S4 : sn_S) => Q r3 S4)))))
theorem wkX9_change {w : sn_W} {C : sn_C} (hO : sn_Ok LoM w C RX9 cX9_change 4 (some .int) [] "change") (p1 : Int32) (p2 : Int32) (S : sn_S) (Q : Int32 → sn_S → Prop) : wpX9_change p1 p2 S Q → sn_G LoM w rmX9_change (sn_qI Q) sn_noE C 0 0 0 [(0, .ref (w.2.2.1 0)), (1, .int p1), (2, .int p2)] [] S := by
  unfold wpX9_change
  generalize hQq : (sn_qI Q) = Qq
  refine sn_aload_n hO 0 rfl dX9_change_0 ?_
  refine sn_getF hO fmX9_13 atM_0 dX9_change_1 ?_
  refine sn_iload_n hO 1 rfl dX9_change_4 ?_
  refine sn_iald hO atM_2 rfl dX9_change_5 ?_
  refine sn_nmI (fun x1 => ?_)
  refine sn_istore_n hO (lv' := [(3, .int x1), (0, .ref (w.2.2.1 0)), (1, .int p1), (2, .int p2)]) (by decide) rfl dX9_change_6 ?_
  refine sn_aload_n hO 1 rfl dX9_change_7 ?_
  refine sn_getF hO fmX9_13 atM_0 dX9_change_8 ?_
  refine sn_iload_n hO 2 rfl dX9_change_11 ?_
  refine sn_iload_n hO 3 rfl dX9_change_12 ?_
  refine sn_iast hO atM_2 rfl dX9_change_13 ?_
  refine sn_nmS (fun S2 => ?_)
  refine sn_aload_n hO 1 rfl dX9_change_14 ?_
  refine sn_iload_n hO 0 rfl dX9_change_15 ?_
  refine sn_callV hO (c2 := 0) (s2 := 0) [.int x1] cvX9_156 (fun _ => sn_Rv_K atM_0) ctX9_was ⟨Nat.le_of_ble_eq_true rfl, Nat.le_of_ble_eq_true rfl⟩ rfl rfl (Nat.le_of_ble_eq_true rfl) ⟨Nat.le_of_ble_eq_true rfl, Nat.le_of_ble_eq_true rfl, rfl, rfl⟩ dX9_change_16 (sn_bI (fun r3 S4 => ?_)) sn_x0
  subst hQq
  exact sn_iret hO rfl dX9_change_19
theorem ctX9_change {w : sn_W} {p1 : Int32} {p2 : Int32} {S : sn_S} {Q : Int32 → sn_S → Prop} (h : wpX9_change p1 p2 S Q) : sn_Ct LoM w yX9_change (ws_ yX9_change cX9_change 4 (some .int)) rmX9_change [.ref (w.2.2.1 0), .int p1, .int p2] S (sn_qI Q) sn_noE := sn_Ct_of (LoM_X w) (by decide) (Nat.le_of_ble_eq_true rfl) RX9 rfl (fun C hO => wkX9_change hO p1 p2 S Q h)
def rmX9_damp : Room := { frames := 2, cells := 0, slots := 0, locals := 45 }
/-- SnailPostModel.damp(II)I -/
def wpX9_damp (p1 : Int32) (p2 : Int32) (S : sn_S) (Q : Int32 → sn_S → Prop) : Prop :=
  sn_lt (sn_pI S 0 0 0) (fun S1 => wpX9_isCell p1 (fun (r2 : Int32) => sn_jn (κ := Prop) (wpX9_tell (-1) S1 (fun (r4 : Int32) (S5 : sn_S) => Q r4 S5)) (fun (k3 : Prop) => ((r2 = 0 → k3) ∧ (¬ r2 = 0 → wpX9_in (Int32.toInt64 p2) 0 9 (fun (r6 : Int32) => ((r6 = 0 → k3) ∧ (¬ r6 = 0 → wpX9_change (80 + p1) p2 S1 (fun (r7 : Int32) (S8 : sn_S) => Q r7 S8)))))))))
theorem wkX9_damp {w : sn_W} {C : sn_C} (hO : sn_Ok LoM w C RX9 cX9_damp 3 (some .int) [] "damp") (p1 : Int32) (p2 : Int32) (S : sn_S) (Q : Int32 → sn_S → Prop) : wpX9_damp p1 p2 S Q → sn_G LoM w rmX9_damp (sn_qI Q) sn_noE C 0 0 0 [(0, .ref (w.2.2.1 0)), (1, .int p1), (2, .int p2)] [] S := by
  unfold wpX9_damp
  generalize hQq : (sn_qI Q) = Qq
  refine sn_aload_n hO 0 rfl dX9_damp_0 ?_
  refine sn_iconst hO kc_0 dX9_damp_1 ?_
  refine sn_putI hO fmX9_150 atM_0 rfl rfl dX9_damp_2 ?_
  refine sn_nmS (fun S1 => ?_)
  refine sn_iload_n hO 1 rfl dX9_damp_5 ?_
  refine sn_callS hO (c2 := 0) (s2 := 0) [.int p1] csX9_173 ctX9_isCell ⟨Nat.le_of_ble_eq_true rfl, Nat.le_of_ble_eq_true rfl⟩ rfl rfl (Nat.le_of_ble_eq_true rfl) ⟨Nat.le_of_ble_eq_true rfl, Nat.le_of_ble_eq_true rfl, rfl, rfl⟩ dX9_damp_6 (sn_bIp (fun r2 => ?_)) sn_x0
  refine sn_jn_walk (fun (k : Prop) => k → sn_G LoM w rmX9_damp Qq sn_noE C 0 0 36 [(0, .ref (w.2.2.1 0))] [] S1) ?_ ?_
  · refine sn_aload_n hO 0 rfl dX9_damp_36 ?_
    refine sn_iconst hO kc_m1 dX9_damp_37 ?_
    refine sn_callV hO (c2 := 0) (s2 := 0) [.int (-1)] cvX9_164 (fun _ => sn_Rv_K atM_0) ctX9_tell ⟨Nat.le_of_ble_eq_true rfl, Nat.le_of_ble_eq_true rfl⟩ rfl rfl (Nat.le_of_ble_eq_true rfl) ⟨Nat.le_of_ble_eq_true rfl, Nat.le_of_ble_eq_true rfl, rfl, rfl⟩ dX9_damp_38 (sn_bI (fun r4 S5 => ?_)) sn_x0
    subst hQq
    exact sn_iret hO rfl dX9_damp_41
  · intro k3 hk3
    refine sn_if_eq hO 36 (by decide) dX9_damp_9 ?_ ?_
    · refine sn_sub [0] rfl ?_
      exact hk3
    · refine sn_iload_n hO 2 rfl dX9_damp_12 ?_
      refine sn_i2l hO dX9_damp_13 ?_
      refine sn_lconst hO (v := 0) rfl dX9_damp_14 ?_
      refine sn_ldc2 hO q1657 dX9_damp_15 ?_
      refine sn_callS hO (c2 := 0) (s2 := 0) [.long (Int32.toInt64 p2), .long 0, .long 9] csX9_160 ctX9_in ⟨Nat.le_of_ble_eq_true rfl, Nat.le_of_ble_eq_true rfl⟩ rfl rfl (Nat.le_of_ble_eq_true rfl) ⟨Nat.le_of_ble_eq_true rfl, Nat.le_of_ble_eq_true rfl, rfl, rfl⟩ dX9_damp_18 (sn_bIp (fun r6 => ?_)) sn_x0
      refine sn_if_eq hO 36 (by decide) dX9_damp_21 ?_ ?_
      · refine sn_sub [0] rfl ?_
        exact hk3
      · refine sn_aload_n hO 0 rfl dX9_damp_24 ?_
        refine sn_bipush hO kb_80 dX9_damp_25 ?_
        refine sn_iload_n hO 1 rfl dX9_damp_27 ?_
        refine sn_iadd hO dX9_damp_28 ?_
        refine sn_iload_n hO 2 rfl dX9_damp_29 ?_
        refine sn_callV hO (c2 := 0) (s2 := 0) [.int (80 + p1), .int p2] cvX9_179 (fun _ => sn_Rv_K atM_0) ctX9_change ⟨Nat.le_of_ble_eq_true rfl, Nat.le_of_ble_eq_true rfl⟩ rfl rfl (Nat.le_of_ble_eq_true rfl) ⟨Nat.le_of_ble_eq_true rfl, Nat.le_of_ble_eq_true rfl, rfl, rfl⟩ dX9_damp_30 (sn_bI (fun r7 S8 => ?_)) sn_x0
        refine sn_goto hO 41 (by decide) dX9_damp_33 ?_
        subst hQq
        exact sn_iret hO rfl dX9_damp_41
theorem ctX9_damp {w : sn_W} {p1 : Int32} {p2 : Int32} {S : sn_S} {Q : Int32 → sn_S → Prop} (h : wpX9_damp p1 p2 S Q) : sn_Ct LoM w yX9_damp (ws_ yX9_damp cX9_damp 3 (some .int)) rmX9_damp [.ref (w.2.2.1 0), .int p1, .int p2] S (sn_qI Q) sn_noE := sn_Ct_of (LoM_X w) (by decide) (Nat.le_of_ble_eq_true rfl) RX9 rfl (fun C hO => wkX9_damp hO p1 p2 S Q h)
def rmX9_ofSnail : Room := { frames := 0, cells := 0, slots := 0, locals := 0 }
/-- SnailPostModel.ofSnail(II)I -/
def wpX9_ofSnail (p1 : Int32) (p2 : Int32) (S : sn_S) (Q : Int32 → Prop) : Prop :=
  (vp_in ((16 + (6 * p1)) + p2) 5680 ∧ Q (S.1 2 (((16 + (6 * p1)) + p2)).toNatClampNeg))
theorem wkX9_ofSnail {w : sn_W} {C : sn_C} (hO : sn_Ok LoM w C RX9 cX9_ofSnail 3 (some .int) [] "ofSnail") (p1 : Int32) (p2 : Int32) (S : sn_S) (Q : Int32 → Prop) : wpX9_ofSnail p1 p2 S Q → sn_G LoM w rmX9_ofSnail (sn_qI (fun r S1 => S1 = S ∧ Q r)) sn_noE C 0 0 0 [(0, .ref (w.2.2.1 0)), (1, .int p1), (2, .int p2)] [] S := by
  unfold wpX9_ofSnail
  generalize hQq : (sn_qI (fun r S1 => S1 = S ∧ Q r)) = Qq
  refine sn_aload_n hO 0 rfl dX9_ofSnail_0 ?_
  refine sn_getF hO fmX9_13 atM_0 dX9_ofSnail_1 ?_
  refine sn_bipush hO kb_16 dX9_ofSnail_4 ?_
  refine sn_bipush hO kb_6 dX9_ofSnail_6 ?_
  refine sn_iload_n hO 1 rfl dX9_ofSnail_8 ?_
  refine sn_imul hO dX9_ofSnail_9 ?_
  refine sn_iadd hO dX9_ofSnail_10 ?_
  refine sn_iload_n hO 2 rfl dX9_ofSnail_11 ?_
  refine sn_iadd hO dX9_ofSnail_12 ?_
  refine sn_iald hO atM_2 rfl dX9_ofSnail_13 ?_
  subst hQq
  exact fun h => sn_iret hO rfl dX9_ofSnail_14 ⟨rfl, h⟩
theorem ctX9_ofSnail {w : sn_W} {p1 : Int32} {p2 : Int32} {S : sn_S} {Q : Int32 → Prop} (h : wpX9_ofSnail p1 p2 S Q) : sn_Ct LoM w yX9_ofSnail (ws_ yX9_ofSnail cX9_ofSnail 3 (some .int)) rmX9_ofSnail [.ref (w.2.2.1 0), .int p1, .int p2] S (sn_qI (fun r S1 => S1 = S ∧ Q r)) sn_noE := sn_Ct_of (LoM_X w) (by decide) (Nat.le_of_ble_eq_true rfl) RX9 rfl (fun C hO => wkX9_ofSnail hO p1 p2 S Q h)
def rmX9_isOfSnails : Room := { frames := 1, cells := 0, slots := 0, locals := 22 }
/-- SnailPostModel.isOfSnails(I)Z -/
def wpX9_isOfSnails (p1 : Int32) (S : sn_S) (Q : Int32 → Prop) : Prop :=
  sn_lp2 (fun (rc3 : Int32 → Int32 → Prop) (i1 : Int32) (i2 : Int32) => (vp_in 0 5680 ∧ (((S.1 2 (0 : Int32).toNatClampNeg) ≤ i2 → (narrow .boolean (.int i1) = .int i1 ∧ Q i1)) ∧ (¬ (S.1 2 (0 : Int32).toNatClampNeg) ≤ i2 → sn_jn (fun (v4 : Int32) => rc3 v4 (i2 + 1)) (fun (k5 : Int32 → Prop) => sn_jn (κ := Prop) (k5 1) (fun (k6 : Prop) => ((¬ i1 = 0 → k6) ∧ (i1 = 0 → wpX9_ofSnail i2 0 S (fun (r7 : Int32) => ((r7 = p1 → k6) ∧ (¬ r7 = p1 → wpX9_ofSnail i2 1 S (fun (r8 : Int32) => ((¬ r8 = p1 → k5 0) ∧ (r8 = p1 → k6)))))))))))))) 0 0
theorem wkX9_isOfSnails {w : sn_W} {C : sn_C} (hO : sn_Ok LoM w C RX9 cX9_isOfSnails 4 (some .boolean) [] "isOfSnails") (p1 : Int32) (S : sn_S) (Q : Int32 → Prop) : wpX9_isOfSnails p1 S Q → sn_G LoM w rmX9_isOfSnails (sn_qI (fun r S1 => S1 = S ∧ Q r)) sn_noE C 0 0 0 [(0, .ref (w.2.2.1 0)), (1, .int p1)] [] S := by
  unfold wpX9_isOfSnails
  generalize hQq : (sn_qI (fun r S1 => S1 = S ∧ Q r)) = Qq
  refine sn_iconst hO kc_0 dX9_isOfSnails_0 ?_
  refine sn_istore_n hO (lv' := [(2, .int 0), (0, .ref (w.2.2.1 0)), (1, .int p1)]) (by decide) rfl dX9_isOfSnails_1 ?_
  refine sn_iconst hO kc_0 dX9_isOfSnails_2 ?_
  refine sn_istore_n hO (lv' := [(3, .int 0), (2, .int 0), (0, .ref (w.2.2.1 0)), (1, .int p1)]) (by decide) rfl dX9_isOfSnails_3 ?_
  refine sn_sub [2, 3, 1, 0] rfl ?_
  refine sn_lp2_walk (Gd := fun (i1 : Int32) (i2 : Int32) => sn_G LoM w rmX9_isOfSnails Qq sn_noE C 0 0 4 [(0, .ref (w.2.2.1 0)), (1, .int p1), (2, .int i1), (3, .int i2)] [] S) ?_ _ _
  intro rc3 hrc3 i1 i2
  refine sn_iload_n hO 3 rfl dX9_isOfSnails_4 ?_
  refine sn_aload_n hO 0 rfl dX9_isOfSnails_5 ?_
  refine sn_getF hO fmX9_13 atM_0 dX9_isOfSnails_6 ?_
  refine sn_iconst hO kc_0 dX9_isOfSnails_9 ?_
  refine sn_iald hO atM_2 rfl dX9_isOfSnails_10 ?_
  refine sn_icmp_ge hO 50 (by decide) dX9_isOfSnails_11 ?_ ?_
  · refine sn_iload_n hO 2 rfl dX9_isOfSnails_50 ?_
    subst hQq
    exact fun h => sn_zretP hO rfl dX9_isOfSnails_51 ⟨h.1, rfl, h.2⟩
  · refine sn_iload_n hO 2 rfl dX9_isOfSnails_14 ?_
    refine sn_jn_walk (fun (k : Int32 → Prop) => ∀ (v4 : Int32), k v4 → sn_G LoM w rmX9_isOfSnails Qq sn_noE C 0 0 43 [(0, .ref (w.2.2.1 0)), (1, .int p1), (3, .int i2)] [.int v4] S) ?_ ?_
    · intro v4
      refine sn_istore_n hO (lv' := [(2, .int v4), (0, .ref (w.2.2.1 0)), (1, .int p1), (3, .int i2)]) (by decide) rfl dX9_isOfSnails_43 ?_
      refine sn_iinc hO (lv' := [(3, .int (i2 + 1)), (2, .int v4), (0, .ref (w.2.2.1 0)), (1, .int p1)]) 3 rfl ki_1 (by decide) rfl dX9_isOfSnails_44 ?_
      refine sn_goto hO 4 (by decide) dX9_isOfSnails_47 ?_
      refine sn_sub [2, 3, 1, 0] rfl ?_
      exact hrc3 _ _
    · intro k5 hk5
      refine sn_jn_walk (fun (k : Prop) => k → sn_G LoM w rmX9_isOfSnails Qq sn_noE C 0 0 38 [(0, .ref (w.2.2.1 0)), (1, .int p1), (3, .int i2)] [] S) ?_ ?_
      · refine sn_iconst hO kc_1 dX9_isOfSnails_38 ?_
        refine sn_goto hO 43 (by decide) dX9_isOfSnails_39 ?_
        exact hk5 _
      · intro k6 hk6
        refine sn_if_ne hO 38 (by decide) dX9_isOfSnails_15 ?_ ?_
        · refine sn_sub [0, 1, 3] rfl ?_
          exact hk6
        · refine sn_aload_n hO 0 rfl dX9_isOfSnails_18 ?_
          refine sn_iload_n hO 3 rfl dX9_isOfSnails_19 ?_
          refine sn_iconst hO kc_0 dX9_isOfSnails_20 ?_
          refine sn_callV hO (c2 := 0) (s2 := 0) [.int i2, .int 0] cvX9_169 (fun _ => sn_Rv_K atM_0) ctX9_ofSnail ⟨Nat.le_of_ble_eq_true rfl, Nat.le_of_ble_eq_true rfl⟩ rfl rfl (Nat.le_of_ble_eq_true rfl) ⟨Nat.le_of_ble_eq_true rfl, Nat.le_of_ble_eq_true rfl, rfl, rfl⟩ dX9_isOfSnails_21 (sn_bIp (fun r7 => ?_)) sn_x0
          refine sn_iload_n hO 1 rfl dX9_isOfSnails_24 ?_
          refine sn_icmp_eq hO 38 (by decide) dX9_isOfSnails_25 ?_ ?_
          · refine sn_sub [0, 1, 3] rfl ?_
            exact hk6
          · refine sn_aload_n hO 0 rfl dX9_isOfSnails_28 ?_
            refine sn_iload_n hO 3 rfl dX9_isOfSnails_29 ?_
            refine sn_iconst hO kc_1 dX9_isOfSnails_30 ?_
            refine sn_callV hO (c2 := 0) (s2 := 0) [.int i2, .int 1] cvX9_169 (fun _ => sn_Rv_K atM_0) ctX9_ofSnail ⟨Nat.le_of_ble_eq_true rfl, Nat.le_of_ble_eq_true rfl⟩ rfl rfl (Nat.le_of_ble_eq_true rfl) ⟨Nat.le_of_ble_eq_true rfl, Nat.le_of_ble_eq_true rfl, rfl, rfl⟩ dX9_isOfSnails_31 (sn_bIp (fun r8 => ?_)) sn_x0
            refine sn_iload_n hO 1 rfl dX9_isOfSnails_34 ?_
            refine sn_icmp_ne hO 42 (by decide) dX9_isOfSnails_35 ?_ ?_
            · refine sn_iconst hO kc_0 dX9_isOfSnails_42 ?_
              refine sn_sub [0, 1, 3] rfl ?_
              exact hk5 _
            · refine sn_sub [0, 1, 3] rfl ?_
              exact hk6
theorem ctX9_isOfSnails {w : sn_W} {p1 : Int32} {S : sn_S} {Q : Int32 → Prop} (h : wpX9_isOfSnails p1 S Q) : sn_Ct LoM w yX9_isOfSnails (ws_ yX9_isOfSnails cX9_isOfSnails 4 (some .boolean)) rmX9_isOfSnails [.ref (w.2.2.1 0), .int p1] S (sn_qI (fun r S1 => S1 = S ∧ Q r)) sn_noE := sn_Ct_of (LoM_X w) (by decide) (Nat.le_of_ble_eq_true rfl) RX9 rfl (fun C hO => wkX9_isOfSnails hO p1 S Q h)
def rmX9_salt : Room := { frames := 2, cells := 0, slots := 0, locals := 45 }
/-- SnailPostModel.salt(II)I -/
def wpX9_salt (p1 : Int32) (p2 : Int32) (S : sn_S) (Q : Int32 → sn_S → Prop) : Prop :=
  sn_lt (sn_pI S 0 0 0) (fun S1 => wpX9_isCell p1 (fun (r2 : Int32) => sn_jn (κ := Prop) (wpX9_tell (-1) S1 (fun (r4 : Int32) (S5 : sn_S) => Q r4 S5)) (fun (k3 : Prop) => ((r2 = 0 → k3) ∧ (¬ r2 = 0 → wpX9_in (Int32.toInt64 p2) 0 1 (fun (r6 : Int32) => ((¬ r6 = 0 → sn_jn (κ := Prop) (wpX9_change (176 + p1) p2 S1 (fun (r8 : Int32) (S9 : sn_S) => Q r8 S9)) (fun (k7 : Prop) => ((¬ p2 = 1 → k7) ∧ (p2 = 1 → wpX9_isOfSnails p1 S1 (fun (r10 : Int32) => ((r10 = 0 → k7) ∧ (¬ r10 = 0 → wpX9_tell (-3) S1 (fun (r11 : Int32) (S12 : sn_S) => Q r11 S12)))))))) ∧ (r6 = 0 → k3))))))))
theorem wkX9_salt {w : sn_W} {C : sn_C} (hO : sn_Ok LoM w C RX9 cX9_salt 3 (some .int) [] "salt") (p1 : Int32) (p2 : Int32) (S : sn_S) (Q : Int32 → sn_S → Prop) : wpX9_salt p1 p2 S Q → sn_G LoM w rmX9_salt (sn_qI Q) sn_noE C 0 0 0 [(0, .ref (w.2.2.1 0)), (1, .int p1), (2, .int p2)] [] S := by
  unfold wpX9_salt
  generalize hQq : (sn_qI Q) = Qq
  refine sn_aload_n hO 0 rfl dX9_salt_0 ?_
  refine sn_iconst hO kc_0 dX9_salt_1 ?_
  refine sn_putI hO fmX9_150 atM_0 rfl rfl dX9_salt_2 ?_
  refine sn_nmS (fun S1 => ?_)
  refine sn_iload_n hO 1 rfl dX9_salt_5 ?_
  refine sn_callS hO (c2 := 0) (s2 := 0) [.int p1] csX9_173 ctX9_isCell ⟨Nat.le_of_ble_eq_true rfl, Nat.le_of_ble_eq_true rfl⟩ rfl rfl (Nat.le_of_ble_eq_true rfl) ⟨Nat.le_of_ble_eq_true rfl, Nat.le_of_ble_eq_true rfl, rfl, rfl⟩ dX9_salt_6 (sn_bIp (fun r2 => ?_)) sn_x0
  refine sn_jn_walk (fun (k : Prop) => k → sn_G LoM w rmX9_salt Qq sn_noE C 0 0 22 [(0, .ref (w.2.2.1 0))] [] S1) ?_ ?_
  · refine sn_aload_n hO 0 rfl dX9_salt_22 ?_
    refine sn_iconst hO kc_m1 dX9_salt_23 ?_
    refine sn_callV hO (c2 := 0) (s2 := 0) [.int (-1)] cvX9_164 (fun _ => sn_Rv_K atM_0) ctX9_tell ⟨Nat.le_of_ble_eq_true rfl, Nat.le_of_ble_eq_true rfl⟩ rfl rfl (Nat.le_of_ble_eq_true rfl) ⟨Nat.le_of_ble_eq_true rfl, Nat.le_of_ble_eq_true rfl, rfl, rfl⟩ dX9_salt_24 (sn_bI (fun r4 S5 => ?_)) sn_x0
    subst hQq
    exact sn_iret hO rfl dX9_salt_27
  · intro k3 hk3
    refine sn_if_eq hO 22 (by decide) dX9_salt_9 ?_ ?_
    · refine sn_sub [0] rfl ?_
      exact hk3
    · refine sn_iload_n hO 2 rfl dX9_salt_12 ?_
      refine sn_i2l hO dX9_salt_13 ?_
      refine sn_lconst hO (v := 0) rfl dX9_salt_14 ?_
      refine sn_lconst hO (v := 1) rfl dX9_salt_15 ?_
      refine sn_callS hO (c2 := 0) (s2 := 0) [.long (Int32.toInt64 p2), .long 0, .long 1] csX9_160 ctX9_in ⟨Nat.le_of_ble_eq_true rfl, Nat.le_of_ble_eq_true rfl⟩ rfl rfl (Nat.le_of_ble_eq_true rfl) ⟨Nat.le_of_ble_eq_true rfl, Nat.le_of_ble_eq_true rfl, rfl, rfl⟩ dX9_salt_16 (sn_bIp (fun r6 => ?_)) sn_x0
      refine sn_if_ne hO 28 (by decide) dX9_salt_19 ?_ ?_
      · refine sn_iload_n hO 2 rfl dX9_salt_28 ?_
        refine sn_iconst hO kc_1 dX9_salt_29 ?_
        refine sn_jn_walk (fun (k : Prop) => k → sn_G LoM w rmX9_salt Qq sn_noE C 0 0 50 [(0, .ref (w.2.2.1 0)), (1, .int p1), (2, .int p2)] [] S1) ?_ ?_
        · refine sn_aload_n hO 0 rfl dX9_salt_50 ?_
          refine sn_sipush hO ks_176 dX9_salt_51 ?_
          refine sn_iload_n hO 1 rfl dX9_salt_54 ?_
          refine sn_iadd hO dX9_salt_55 ?_
          refine sn_iload_n hO 2 rfl dX9_salt_56 ?_
          refine sn_callV hO (c2 := 0) (s2 := 0) [.int (176 + p1), .int p2] cvX9_179 (fun _ => sn_Rv_K atM_0) ctX9_change ⟨Nat.le_of_ble_eq_true rfl, Nat.le_of_ble_eq_true rfl⟩ rfl rfl (Nat.le_of_ble_eq_true rfl) ⟨Nat.le_of_ble_eq_true rfl, Nat.le_of_ble_eq_true rfl, rfl, rfl⟩ dX9_salt_57 (sn_bI (fun r8 S9 => ?_)) sn_x0
          subst hQq
          exact sn_iret hO rfl dX9_salt_60
        · intro k7 hk7
          refine sn_icmp_ne hO 50 (by decide) dX9_salt_30 ?_ ?_
          · exact hk7
          · refine sn_aload_n hO 0 rfl dX9_salt_33 ?_
            refine sn_iload_n hO 1 rfl dX9_salt_34 ?_
            refine sn_callV hO (c2 := 0) (s2 := 0) [.int p1] cvX9_182 (fun _ => sn_Rv_K atM_0) ctX9_isOfSnails ⟨Nat.le_of_ble_eq_true rfl, Nat.le_of_ble_eq_true rfl⟩ rfl rfl (Nat.le_of_ble_eq_true rfl) ⟨Nat.le_of_ble_eq_true rfl, Nat.le_of_ble_eq_true rfl, rfl, rfl⟩ dX9_salt_35 (sn_bIp (fun r10 => ?_)) sn_x0
            refine sn_if_eq hO 50 (by decide) dX9_salt_38 ?_ ?_
            · exact hk7
            · refine sn_aload_n hO 0 rfl dX9_salt_41 ?_
              refine sn_bipush hO kb_m3 dX9_salt_42 ?_
              refine sn_callV hO (c2 := 0) (s2 := 0) [.int (-3)] cvX9_164 (fun _ => sn_Rv_K atM_0) ctX9_tell ⟨Nat.le_of_ble_eq_true rfl, Nat.le_of_ble_eq_true rfl⟩ rfl rfl (Nat.le_of_ble_eq_true rfl) ⟨Nat.le_of_ble_eq_true rfl, Nat.le_of_ble_eq_true rfl, rfl, rfl⟩ dX9_salt_44 (sn_bI (fun r11 S12 => ?_)) sn_x0
              refine sn_goto hO 60 (by decide) dX9_salt_47 ?_
              subst hQq
              exact sn_iret hO rfl dX9_salt_60
      · refine sn_sub [0] rfl ?_
        exact hk3
theorem ctX9_salt {w : sn_W} {p1 : Int32} {p2 : Int32} {S : sn_S} {Q : Int32 → sn_S → Prop} (h : wpX9_salt p1 p2 S Q) : sn_Ct LoM w yX9_salt (ws_ yX9_salt cX9_salt 3 (some .int)) rmX9_salt [.ref (w.2.2.1 0), .int p1, .int p2] S (sn_qI Q) sn_noE := sn_Ct_of (LoM_X w) (by decide) (Nat.le_of_ble_eq_true rfl) RX9 rfl (fun C hO => wkX9_salt hO p1 p2 S Q h)
def rmX9_of : Room := { frames := 2, cells := 0, slots := 0, locals := 45 }
/-- SnailPostModel.of(II)I -/
def wpX9_of (p1 : Int32) (p2 : Int32) (S : sn_S) (Q : Int32 → sn_S → Prop) : Prop :=
  sn_lt (sn_pI S 0 0 0) (fun S1 => wpX9_isCell p1 (fun (r2 : Int32) => ((r2 = 0 → Q (-1) S1) ∧ (¬ r2 = 0 → wpX9_in (Int32.toInt64 p2) 0 1 (fun (r3 : Int32) => ((r3 = 0 → Q (-1) S1) ∧ (¬ r3 = 0 → ((¬ p2 = 0 → (vp_in (176 + p1) 5680 ∧ Q (S1.1 2 ((176 + p1)).toNatClampNeg) S1)) ∧ (p2 = 0 → (vp_in (80 + p1) 5680 ∧ Q (S1.1 2 ((80 + p1)).toNatClampNeg) S1))))))))))
theorem wkX9_of {w : sn_W} {C : sn_C} (hO : sn_Ok LoM w C RX9 cX9_of 3 (some .int) [] "of") (p1 : Int32) (p2 : Int32) (S : sn_S) (Q : Int32 → sn_S → Prop) : wpX9_of p1 p2 S Q → sn_G LoM w rmX9_of (sn_qI Q) sn_noE C 0 0 0 [(0, .ref (w.2.2.1 0)), (1, .int p1), (2, .int p2)] [] S := by
  unfold wpX9_of
  generalize hQq : (sn_qI Q) = Qq
  refine sn_aload_n hO 0 rfl dX9_of_0 ?_
  refine sn_iconst hO kc_0 dX9_of_1 ?_
  refine sn_putI hO fmX9_150 atM_0 rfl rfl dX9_of_2 ?_
  refine sn_nmS (fun S1 => ?_)
  refine sn_iload_n hO 1 rfl dX9_of_5 ?_
  refine sn_callS hO (c2 := 0) (s2 := 0) [.int p1] csX9_173 ctX9_isCell ⟨Nat.le_of_ble_eq_true rfl, Nat.le_of_ble_eq_true rfl⟩ rfl rfl (Nat.le_of_ble_eq_true rfl) ⟨Nat.le_of_ble_eq_true rfl, Nat.le_of_ble_eq_true rfl, rfl, rfl⟩ dX9_of_6 (sn_bIp (fun r2 => ?_)) sn_x0
  refine sn_if_eq hO 46 (by decide) dX9_of_9 ?_ ?_
  · refine sn_iconst hO kc_m1 dX9_of_46 ?_
    subst hQq
    exact sn_iret hO rfl dX9_of_47
  · refine sn_iload_n hO 2 rfl dX9_of_12 ?_
    refine sn_i2l hO dX9_of_13 ?_
    refine sn_lconst hO (v := 0) rfl dX9_of_14 ?_
    refine sn_lconst hO (v := 1) rfl dX9_of_15 ?_
    refine sn_callS hO (c2 := 0) (s2 := 0) [.long (Int32.toInt64 p2), .long 0, .long 1] csX9_160 ctX9_in ⟨Nat.le_of_ble_eq_true rfl, Nat.le_of_ble_eq_true rfl⟩ rfl rfl (Nat.le_of_ble_eq_true rfl) ⟨Nat.le_of_ble_eq_true rfl, Nat.le_of_ble_eq_true rfl, rfl, rfl⟩ dX9_of_16 (sn_bIp (fun r3 => ?_)) sn_x0
    refine sn_if_eq hO 46 (by decide) dX9_of_19 ?_ ?_
    · refine sn_iconst hO kc_m1 dX9_of_46 ?_
      subst hQq
      exact sn_iret hO rfl dX9_of_47
    · refine sn_aload_n hO 0 rfl dX9_of_22 ?_
      refine sn_getF hO fmX9_13 atM_0 dX9_of_23 ?_
      refine sn_iload_n hO 2 rfl dX9_of_26 ?_
      refine sn_if_ne hO 37 (by decide) dX9_of_27 ?_ ?_
      · refine sn_sipush hO ks_176 dX9_of_37 ?_
        refine sn_iload_n hO 1 rfl dX9_of_40 ?_
        refine sn_iadd hO dX9_of_41 ?_
        refine sn_iald hO atM_2 rfl dX9_of_42 ?_
        refine sn_goto hO 47 (by decide) dX9_of_43 ?_
        subst hQq
        exact sn_iret hO rfl dX9_of_47
      · refine sn_bipush hO kb_80 dX9_of_30 ?_
        refine sn_iload_n hO 1 rfl dX9_of_32 ?_
        refine sn_iadd hO dX9_of_33 ?_
        refine sn_goto hO 42 (by decide) dX9_of_34 ?_
        refine sn_iald hO atM_2 rfl dX9_of_42 ?_
        refine sn_goto hO 47 (by decide) dX9_of_43 ?_
        subst hQq
        exact sn_iret hO rfl dX9_of_47
theorem ctX9_of {w : sn_W} {p1 : Int32} {p2 : Int32} {S : sn_S} {Q : Int32 → sn_S → Prop} (h : wpX9_of p1 p2 S Q) : sn_Ct LoM w yX9_of (ws_ yX9_of cX9_of 3 (some .int)) rmX9_of [.ref (w.2.2.1 0), .int p1, .int p2] S (sn_qI Q) sn_noE := sn_Ct_of (LoM_X w) (by decide) (Nat.le_of_ble_eq_true rfl) RX9 rfl (fun C hO => wkX9_of hO p1 p2 S Q h)
def rmX9_snail : Room := { frames := 2, cells := 0, slots := 0, locals := 45 }
/-- SnailPostModel.snail(IIII)I -/
def wpX9_snail (p1 : Int32) (p2 : Int32) (p3 : Int32) (p4 : Int32) (S : sn_S) (Q : Int32 → sn_S → Prop) : Prop :=
  sn_lt (sn_pI S 0 0 0) (fun S1 => wpX9_isCell p1 (fun (r2 : Int32) => sn_jn (κ := Prop) (wpX9_tell (-1) S1 (fun (r4 : Int32) (S5 : sn_S) => Q r4 S5)) (fun (k3 : Prop) => ((r2 = 0 → k3) ∧ (¬ r2 = 0 → wpX9_isCell p2 (fun (r6 : Int32) => ((r6 = 0 → k3) ∧ (¬ r6 = 0 → wpX9_in (Int32.toInt64 p3) 1 12 (fun (r7 : Int32) => ((r7 = 0 → k3) ∧ (¬ r7 = 0 → wpX9_in (Int32.toInt64 p4) 0 4 (fun (r8 : Int32) => ((¬ r8 = 0 → (vp_in (176 + p1) 5680 ∧ sn_jn (κ := Prop) (wpX9_tell (-3) S1 (fun (r10 : Int32) (S11 : sn_S) => Q r10 S11)) (fun (k9 : Prop) => (((S1.1 2 ((176 + p1)).toNatClampNeg) = 1 → k9) ∧ (¬ (S1.1 2 ((176 + p1)).toNatClampNeg) = 1 → (vp_in (176 + p2) 5680 ∧ ((¬ (S1.1 2 ((176 + p2)).toNatClampNeg) = 1 → (vp_in 0 5680 ∧ sn_lt (S1.1 2 (0 : Int32).toNatClampNeg) (fun x12 => ((¬ x12 = 6 → sn_lt (16 + (6 * x12)) (fun x13 => (vp_in (x13 + 0) 5680 ∧ sn_lt (sn_pI S1 2 ((x13 + 0)).toNatClampNeg p1) (fun S14 => (vp_in (x13 + 1) 5680 ∧ sn_lt (sn_pI S14 2 ((x13 + 1)).toNatClampNeg p2) (fun S15 => (vp_in (x13 + 2) 5680 ∧ sn_lt (sn_pI S15 2 ((x13 + 2)).toNatClampNeg p3) (fun S16 => (vp_in (x13 + 3) 5680 ∧ sn_lt (sn_pI S16 2 ((x13 + 3)).toNatClampNeg p4) (fun S17 => (vp_in (x13 + 4) 5680 ∧ sn_lt (sn_pI S17 2 ((x13 + 4)).toNatClampNeg 0) (fun S18 => (vp_in (x13 + 5) 5680 ∧ sn_lt (sn_pI S18 2 ((x13 + 5)).toNatClampNeg 1) (fun S19 => (vp_in 0 5680 ∧ (vp_in 0 5680 ∧ sn_lt (sn_pI S19 2 (0 : Int32).toNatClampNeg ((S19.1 2 (0 : Int32).toNatClampNeg) + 1)) (fun S20 => wpX9_tell x12 S20 (fun (r21 : Int32) (S22 : sn_S) => Q r21 S22)))))))))))))))))) ∧ (x12 = 6 → wpX9_tell (-5) S1 (fun (r23 : Int32) (S24 : sn_S) => Q r23 S24)))))) ∧ ((S1.1 2 ((176 + p2)).toNatClampNeg) = 1 → k9)))))))) ∧ (r8 = 0 → k3))))))))))))))
theorem wkX9_snail {w : sn_W} {C : sn_C} (hO : sn_Ok LoM w C RX9 cX9_snail 7 (some .int) [] "snail") (p1 : Int32) (p2 : Int32) (p3 : Int32) (p4 : Int32) (S : sn_S) (Q : Int32 → sn_S → Prop) : wpX9_snail p1 p2 p3 p4 S Q → sn_G LoM w rmX9_snail (sn_qI Q) sn_noE C 0 0 0 [(0, .ref (w.2.2.1 0)), (1, .int p1), (2, .int p2), (3, .int p3), (4, .int p4)] [] S := by
  unfold wpX9_snail
  generalize hQq : (sn_qI Q) = Qq
  refine sn_aload_n hO 0 rfl dX9_snail_0 ?_
  refine sn_iconst hO kc_0 dX9_snail_1 ?_
  refine sn_putI hO fmX9_150 atM_0 rfl rfl dX9_snail_2 ?_
  refine sn_nmS (fun S1 => ?_)
  refine sn_iload_n hO 1 rfl dX9_snail_5 ?_
  refine sn_callS hO (c2 := 0) (s2 := 0) [.int p1] csX9_173 ctX9_isCell ⟨Nat.le_of_ble_eq_true rfl, Nat.le_of_ble_eq_true rfl⟩ rfl rfl (Nat.le_of_ble_eq_true rfl) ⟨Nat.le_of_ble_eq_true rfl, Nat.le_of_ble_eq_true rfl, rfl, rfl⟩ dX9_snail_6 (sn_bIp (fun r2 => ?_)) sn_x0
  refine sn_jn_walk (fun (k : Prop) => k → sn_G LoM w rmX9_snail Qq sn_noE C 0 0 44 [(0, .ref (w.2.2.1 0))] [] S1) ?_ ?_
  · refine sn_aload_n hO 0 rfl dX9_snail_44 ?_
    refine sn_iconst hO kc_m1 dX9_snail_45 ?_
    refine sn_callV hO (c2 := 0) (s2 := 0) [.int (-1)] cvX9_164 (fun _ => sn_Rv_K atM_0) ctX9_tell ⟨Nat.le_of_ble_eq_true rfl, Nat.le_of_ble_eq_true rfl⟩ rfl rfl (Nat.le_of_ble_eq_true rfl) ⟨Nat.le_of_ble_eq_true rfl, Nat.le_of_ble_eq_true rfl, rfl, rfl⟩ dX9_snail_46 (sn_bI (fun r4 S5 => ?_)) sn_x0
    subst hQq
    exact sn_iret hO rfl dX9_snail_49
  · intro k3 hk3
    refine sn_if_eq hO 44 (by decide) dX9_snail_9 ?_ ?_
    · refine sn_sub [0] rfl ?_
      exact hk3
    · refine sn_iload_n hO 2 rfl dX9_snail_12 ?_
      refine sn_callS hO (c2 := 0) (s2 := 0) [.int p2] csX9_173 ctX9_isCell ⟨Nat.le_of_ble_eq_true rfl, Nat.le_of_ble_eq_true rfl⟩ rfl rfl (Nat.le_of_ble_eq_true rfl) ⟨Nat.le_of_ble_eq_true rfl, Nat.le_of_ble_eq_true rfl, rfl, rfl⟩ dX9_snail_13 (sn_bIp (fun r6 => ?_)) sn_x0
      refine sn_if_eq hO 44 (by decide) dX9_snail_16 ?_ ?_
      · refine sn_sub [0] rfl ?_
        exact hk3
      · refine sn_iload_n hO 3 rfl dX9_snail_19 ?_
        refine sn_i2l hO dX9_snail_20 ?_
        refine sn_lconst hO (v := 1) rfl dX9_snail_21 ?_
        refine sn_ldc2 hO q1686 dX9_snail_22 ?_
        refine sn_callS hO (c2 := 0) (s2 := 0) [.long (Int32.toInt64 p3), .long 1, .long 12] csX9_160 ctX9_in ⟨Nat.le_of_ble_eq_true rfl, Nat.le_of_ble_eq_true rfl⟩ rfl rfl (Nat.le_of_ble_eq_true rfl) ⟨Nat.le_of_ble_eq_true rfl, Nat.le_of_ble_eq_true rfl, rfl, rfl⟩ dX9_snail_25 (sn_bIp (fun r7 => ?_)) sn_x0
        refine sn_if_eq hO 44 (by decide) dX9_snail_28 ?_ ?_
        · refine sn_sub [0] rfl ?_
          exact hk3
        · refine sn_iload hO 4 rfl dX9_snail_31 ?_
          refine sn_i2l hO dX9_snail_33 ?_
          refine sn_lconst hO (v := 0) rfl dX9_snail_34 ?_
          refine sn_ldc2 hO q1687 dX9_snail_35 ?_
          refine sn_callS hO (c2 := 0) (s2 := 0) [.long (Int32.toInt64 p4), .long 0, .long 4] csX9_160 ctX9_in ⟨Nat.le_of_ble_eq_true rfl, Nat.le_of_ble_eq_true rfl⟩ rfl rfl (Nat.le_of_ble_eq_true rfl) ⟨Nat.le_of_ble_eq_true rfl, Nat.le_of_ble_eq_true rfl, rfl, rfl⟩ dX9_snail_38 (sn_bIp (fun r8 => ?_)) sn_x0
          refine sn_if_ne hO 50 (by decide) dX9_snail_41 ?_ ?_
          · refine sn_aload_n hO 0 rfl dX9_snail_50 ?_
            refine sn_getF hO fmX9_13 atM_0 dX9_snail_51 ?_
            refine sn_sipush hO ks_176 dX9_snail_54 ?_
            refine sn_iload_n hO 1 rfl dX9_snail_57 ?_
            refine sn_iadd hO dX9_snail_58 ?_
            refine sn_iald hO atM_2 rfl dX9_snail_59 ?_
            refine sn_iconst hO kc_1 dX9_snail_60 ?_
            refine sn_jn_walk (fun (k : Prop) => k → sn_G LoM w rmX9_snail Qq sn_noE C 0 0 78 [(0, .ref (w.2.2.1 0))] [] S1) ?_ ?_
            · refine sn_aload_n hO 0 rfl dX9_snail_78 ?_
              refine sn_bipush hO kb_m3 dX9_snail_79 ?_
              refine sn_callV hO (c2 := 0) (s2 := 0) [.int (-3)] cvX9_164 (fun _ => sn_Rv_K atM_0) ctX9_tell ⟨Nat.le_of_ble_eq_true rfl, Nat.le_of_ble_eq_true rfl⟩ rfl rfl (Nat.le_of_ble_eq_true rfl) ⟨Nat.le_of_ble_eq_true rfl, Nat.le_of_ble_eq_true rfl, rfl, rfl⟩ dX9_snail_81 (sn_bI (fun r10 S11 => ?_)) sn_x0
              subst hQq
              exact sn_iret hO rfl dX9_snail_84
            · intro k9 hk9
              refine sn_icmp_eq hO 78 (by decide) dX9_snail_61 ?_ ?_
              · refine sn_sub [0] rfl ?_
                exact hk9
              · refine sn_aload_n hO 0 rfl dX9_snail_64 ?_
                refine sn_getF hO fmX9_13 atM_0 dX9_snail_65 ?_
                refine sn_sipush hO ks_176 dX9_snail_68 ?_
                refine sn_iload_n hO 2 rfl dX9_snail_71 ?_
                refine sn_iadd hO dX9_snail_72 ?_
                refine sn_iald hO atM_2 rfl dX9_snail_73 ?_
                refine sn_iconst hO kc_1 dX9_snail_74 ?_
                refine sn_icmp_ne hO 85 (by decide) dX9_snail_75 ?_ ?_
                · refine sn_aload_n hO 0 rfl dX9_snail_85 ?_
                  refine sn_getF hO fmX9_13 atM_0 dX9_snail_86 ?_
                  refine sn_iconst hO kc_0 dX9_snail_89 ?_
                  refine sn_iald hO atM_2 rfl dX9_snail_90 ?_
                  refine sn_nmI (fun x12 => ?_)
                  refine sn_istore hO (lv' := [(5, .int x12), (0, .ref (w.2.2.1 0)), (1, .int p1), (2, .int p2), (3, .int p3), (4, .int p4)]) (by decide) rfl dX9_snail_91 ?_
                  refine sn_iload hO 0 rfl dX9_snail_93 ?_
                  refine sn_bipush hO kb_6 dX9_snail_95 ?_
                  refine sn_icmp_ne hO 107 (by decide) dX9_snail_97 ?_ ?_
                  · refine sn_bipush hO kb_16 dX9_snail_107 ?_
                    refine sn_bipush hO kb_6 dX9_snail_109 ?_
                    refine sn_iload hO 0 rfl dX9_snail_111 ?_
                    refine sn_imul hO dX9_snail_113 ?_
                    refine sn_iadd hO dX9_snail_114 ?_
                    refine sn_nmI (fun x13 => ?_)
                    refine sn_istore hO (lv' := [(6, .int x13), (5, .int x12), (0, .ref (w.2.2.1 0)), (1, .int p1), (2, .int p2), (3, .int p3), (4, .int p4)]) (by decide) rfl dX9_snail_115 ?_
                    refine sn_aload_n hO 2 rfl dX9_snail_117 ?_
                    refine sn_getF hO fmX9_13 atM_0 dX9_snail_118 ?_
                    refine sn_iload hO 0 rfl dX9_snail_121 ?_
                    refine sn_iconst hO kc_0 dX9_snail_123 ?_
                    refine sn_iadd hO dX9_snail_124 ?_
                    refine sn_iload_n hO 3 rfl dX9_snail_125 ?_
                    refine sn_iast hO atM_2 rfl dX9_snail_126 ?_
                    refine sn_nmS (fun S14 => ?_)
                    refine sn_aload_n hO 2 rfl dX9_snail_127 ?_
                    refine sn_getF hO fmX9_13 atM_0 dX9_snail_128 ?_
                    refine sn_iload hO 0 rfl dX9_snail_131 ?_
                    refine sn_iconst hO kc_1 dX9_snail_133 ?_
                    refine sn_iadd hO dX9_snail_134 ?_
                    refine sn_iload_n hO 4 rfl dX9_snail_135 ?_
                    refine sn_iast hO atM_2 rfl dX9_snail_136 ?_
                    refine sn_nmS (fun S15 => ?_)
                    refine sn_aload_n hO 2 rfl dX9_snail_137 ?_
                    refine sn_getF hO fmX9_13 atM_0 dX9_snail_138 ?_
                    refine sn_iload hO 0 rfl dX9_snail_141 ?_
                    refine sn_iconst hO kc_2 dX9_snail_143 ?_
                    refine sn_iadd hO dX9_snail_144 ?_
                    refine sn_iload_n hO 5 rfl dX9_snail_145 ?_
                    refine sn_iast hO atM_2 rfl dX9_snail_146 ?_
                    refine sn_nmS (fun S16 => ?_)
                    refine sn_aload_n hO 2 rfl dX9_snail_147 ?_
                    refine sn_getF hO fmX9_13 atM_0 dX9_snail_148 ?_
                    refine sn_iload hO 0 rfl dX9_snail_151 ?_
                    refine sn_iconst hO kc_3 dX9_snail_153 ?_
                    refine sn_iadd hO dX9_snail_154 ?_
                    refine sn_iload hO 6 rfl dX9_snail_155 ?_
                    refine sn_iast hO atM_2 rfl dX9_snail_157 ?_
                    refine sn_nmS (fun S17 => ?_)
                    refine sn_aload_n hO 2 rfl dX9_snail_158 ?_
                    refine sn_getF hO fmX9_13 atM_0 dX9_snail_159 ?_
                    refine sn_iload hO 0 rfl dX9_snail_162 ?_
                    refine sn_iconst hO kc_4 dX9_snail_164 ?_
                    refine sn_iadd hO dX9_snail_165 ?_
                    refine sn_iconst hO kc_0 dX9_snail_166 ?_
                    refine sn_iast hO atM_2 rfl dX9_snail_167 ?_
                    refine sn_nmS (fun S18 => ?_)
                    refine sn_aload_n hO 2 rfl dX9_snail_168 ?_
                    refine sn_getF hO fmX9_13 atM_0 dX9_snail_169 ?_
                    refine sn_iload hO 0 rfl dX9_snail_172 ?_
                    refine sn_iconst hO kc_5 dX9_snail_174 ?_
                    refine sn_iadd hO dX9_snail_175 ?_
                    refine sn_iconst hO kc_1 dX9_snail_176 ?_
                    refine sn_iast hO atM_2 rfl dX9_snail_177 ?_
                    refine sn_nmS (fun S19 => ?_)
                    refine sn_aload_n hO 2 rfl dX9_snail_178 ?_
                    refine sn_getF hO fmX9_13 atM_0 dX9_snail_179 ?_
                    refine sn_iconst hO kc_0 dX9_snail_182 ?_
                    refine sn_dup2 hO rfl rfl dX9_snail_183 ?_
                    refine sn_iald hO atM_2 rfl dX9_snail_184 ?_
                    refine sn_iconst hO kc_1 dX9_snail_185 ?_
                    refine sn_iadd hO dX9_snail_186 ?_
                    refine sn_iast hO atM_2 rfl dX9_snail_187 ?_
                    refine sn_nmS (fun S20 => ?_)
                    refine sn_aload_n hO 2 rfl dX9_snail_188 ?_
                    refine sn_iload hO 1 rfl dX9_snail_189 ?_
                    refine sn_callV hO (c2 := 0) (s2 := 0) [.int x12] cvX9_164 (fun _ => sn_Rv_K atM_0) ctX9_tell ⟨Nat.le_of_ble_eq_true rfl, Nat.le_of_ble_eq_true rfl⟩ rfl rfl (Nat.le_of_ble_eq_true rfl) ⟨Nat.le_of_ble_eq_true rfl, Nat.le_of_ble_eq_true rfl, rfl, rfl⟩ dX9_snail_191 (sn_bI (fun r21 S22 => ?_)) sn_x0
                    subst hQq
                    exact sn_iret hO rfl dX9_snail_194
                  · refine sn_aload_n hO 1 rfl dX9_snail_100 ?_
                    refine sn_bipush hO kb_m5 dX9_snail_101 ?_
                    refine sn_callV hO (c2 := 0) (s2 := 0) [.int (-5)] cvX9_164 (fun _ => sn_Rv_K atM_0) ctX9_tell ⟨Nat.le_of_ble_eq_true rfl, Nat.le_of_ble_eq_true rfl⟩ rfl rfl (Nat.le_of_ble_eq_true rfl) ⟨Nat.le_of_ble_eq_true rfl, Nat.le_of_ble_eq_true rfl, rfl, rfl⟩ dX9_snail_103 (sn_bI (fun r23 S24 => ?_)) sn_x0
                    subst hQq
                    exact sn_iret hO rfl dX9_snail_106
                · refine sn_sub [0] rfl ?_
                  exact hk9
          · refine sn_sub [0] rfl ?_
            exact hk3
theorem ctX9_snail {w : sn_W} {p1 : Int32} {p2 : Int32} {p3 : Int32} {p4 : Int32} {S : sn_S} {Q : Int32 → sn_S → Prop} (h : wpX9_snail p1 p2 p3 p4 S Q) : sn_Ct LoM w yX9_snail (ws_ yX9_snail cX9_snail 7 (some .int)) rmX9_snail [.ref (w.2.2.1 0), .int p1, .int p2, .int p3, .int p4] S (sn_qI Q) sn_noE := sn_Ct_of (LoM_X w) (by decide) (Nat.le_of_ble_eq_true rfl) RX9 rfl (fun C hO => wkX9_snail hO p1 p2 p3 p4 S Q h)
def rmX9_fits : Room := { frames := 2, cells := 0, slots := 0, locals := 45 }
/-- SnailPostModel.fits(II)Z -/
def wpX9_fits (p1 : Int32) (p2 : Int32) (Q : Int32 → Prop) : Prop :=
  sn_sw p1 0 [wpX9_isCell p2 (fun (r1 : Int32) => (narrow .boolean (.int r1) = .int r1 ∧ Q r1)), wpX9_isCell p2 (fun (r2 : Int32) => (narrow .boolean (.int r2) = .int r2 ∧ Q r2)), wpX9_in (Int32.toInt64 p2) 1 12 (fun (r3 : Int32) => (narrow .boolean (.int r3) = .int r3 ∧ Q r3)), wpX9_in (Int32.toInt64 p2) 0 4 (fun (r4 : Int32) => (narrow .boolean (.int r4) = .int r4 ∧ Q r4)), wpX9_in (Int32.toInt64 p2) 0 100 (fun (r5 : Int32) => (narrow .boolean (.int r5) = .int r5 ∧ Q r5)), wpX9_in (Int32.toInt64 p2) 1 63 (fun (r6 : Int32) => (narrow .boolean (.int r6) = .int r6 ∧ Q r6))] (Q 0)
theorem wkX9_fits {w : sn_W} {C : sn_C} (hO : sn_Ok LoM w C RX9 cX9_fits 2 (some .boolean) [] "fits") (p1 : Int32) (p2 : Int32) (S : sn_S) (Q : Int32 → Prop) : wpX9_fits p1 p2 Q → sn_G LoM w rmX9_fits (sn_qI (fun r S1 => S1 = S ∧ Q r)) sn_noE C 0 0 0 [(0, .int p1), (1, .int p2)] [] S := by
  unfold wpX9_fits
  generalize hQq : (sn_qI (fun r S1 => S1 = S ∧ Q r)) = Qq
  refine sn_iload_n hO 0 rfl dX9_fits_0 ?_
  refine sn_tsw hO [40, 45, 50, 60, 70, 80] 90 (by decide) (by decide) (by decide) dX9_fits_1 ?_ ?_
  · refine ⟨?_, ?_, ?_, ?_, ?_, ?_, trivial⟩
    · refine sn_iload_n hO 1 rfl dX9_fits_40 ?_
      refine sn_callS hO (c2 := 0) (s2 := 0) [.int p2] csX9_173 ctX9_isCell ⟨Nat.le_of_ble_eq_true rfl, Nat.le_of_ble_eq_true rfl⟩ rfl rfl (Nat.le_of_ble_eq_true rfl) ⟨Nat.le_of_ble_eq_true rfl, Nat.le_of_ble_eq_true rfl, rfl, rfl⟩ dX9_fits_41 (sn_bIp (fun r1 => ?_)) sn_x0
      subst hQq
      exact fun h => sn_zretP hO rfl dX9_fits_44 ⟨h.1, rfl, h.2⟩
    · refine sn_iload_n hO 1 rfl dX9_fits_45 ?_
      refine sn_callS hO (c2 := 0) (s2 := 0) [.int p2] csX9_173 ctX9_isCell ⟨Nat.le_of_ble_eq_true rfl, Nat.le_of_ble_eq_true rfl⟩ rfl rfl (Nat.le_of_ble_eq_true rfl) ⟨Nat.le_of_ble_eq_true rfl, Nat.le_of_ble_eq_true rfl, rfl, rfl⟩ dX9_fits_46 (sn_bIp (fun r2 => ?_)) sn_x0
      subst hQq
      exact fun h => sn_zretP hO rfl dX9_fits_49 ⟨h.1, rfl, h.2⟩
    · refine sn_iload_n hO 1 rfl dX9_fits_50 ?_
      refine sn_i2l hO dX9_fits_51 ?_
      refine sn_lconst hO (v := 1) rfl dX9_fits_52 ?_
      refine sn_ldc2 hO q1686 dX9_fits_53 ?_
      refine sn_callS hO (c2 := 0) (s2 := 0) [.long (Int32.toInt64 p2), .long 1, .long 12] csX9_160 ctX9_in ⟨Nat.le_of_ble_eq_true rfl, Nat.le_of_ble_eq_true rfl⟩ rfl rfl (Nat.le_of_ble_eq_true rfl) ⟨Nat.le_of_ble_eq_true rfl, Nat.le_of_ble_eq_true rfl, rfl, rfl⟩ dX9_fits_56 (sn_bIp (fun r3 => ?_)) sn_x0
      subst hQq
      exact fun h => sn_zretP hO rfl dX9_fits_59 ⟨h.1, rfl, h.2⟩
    · refine sn_iload_n hO 1 rfl dX9_fits_60 ?_
      refine sn_i2l hO dX9_fits_61 ?_
      refine sn_lconst hO (v := 0) rfl dX9_fits_62 ?_
      refine sn_ldc2 hO q1687 dX9_fits_63 ?_
      refine sn_callS hO (c2 := 0) (s2 := 0) [.long (Int32.toInt64 p2), .long 0, .long 4] csX9_160 ctX9_in ⟨Nat.le_of_ble_eq_true rfl, Nat.le_of_ble_eq_true rfl⟩ rfl rfl (Nat.le_of_ble_eq_true rfl) ⟨Nat.le_of_ble_eq_true rfl, Nat.le_of_ble_eq_true rfl, rfl, rfl⟩ dX9_fits_66 (sn_bIp (fun r4 => ?_)) sn_x0
      subst hQq
      exact fun h => sn_zretP hO rfl dX9_fits_69 ⟨h.1, rfl, h.2⟩
    · refine sn_iload_n hO 1 rfl dX9_fits_70 ?_
      refine sn_i2l hO dX9_fits_71 ?_
      refine sn_lconst hO (v := 0) rfl dX9_fits_72 ?_
      refine sn_ldc2 hO q1695 dX9_fits_73 ?_
      refine sn_callS hO (c2 := 0) (s2 := 0) [.long (Int32.toInt64 p2), .long 0, .long 100] csX9_160 ctX9_in ⟨Nat.le_of_ble_eq_true rfl, Nat.le_of_ble_eq_true rfl⟩ rfl rfl (Nat.le_of_ble_eq_true rfl) ⟨Nat.le_of_ble_eq_true rfl, Nat.le_of_ble_eq_true rfl, rfl, rfl⟩ dX9_fits_76 (sn_bIp (fun r5 => ?_)) sn_x0
      subst hQq
      exact fun h => sn_zretP hO rfl dX9_fits_79 ⟨h.1, rfl, h.2⟩
    · refine sn_iload_n hO 1 rfl dX9_fits_80 ?_
      refine sn_i2l hO dX9_fits_81 ?_
      refine sn_lconst hO (v := 1) rfl dX9_fits_82 ?_
      refine sn_ldc2 hO q1696 dX9_fits_83 ?_
      refine sn_callS hO (c2 := 0) (s2 := 0) [.long (Int32.toInt64 p2), .long 1, .long 63] csX9_160 ctX9_in ⟨Nat.le_of_ble_eq_true rfl, Nat.le_of_ble_eq_true rfl⟩ rfl rfl (Nat.le_of_ble_eq_true rfl) ⟨Nat.le_of_ble_eq_true rfl, Nat.le_of_ble_eq_true rfl, rfl, rfl⟩ dX9_fits_86 (sn_bIp (fun r6 => ?_)) sn_x0
      subst hQq
      exact fun h => sn_zretP hO rfl dX9_fits_89 ⟨h.1, rfl, h.2⟩
  · refine sn_iconst hO kc_0 dX9_fits_90 ?_
    subst hQq
    exact fun h => sn_zret hO (ty := .boolean) rfl rfl dX9_fits_91 ⟨rfl, h⟩
theorem ctX9_fits {w : sn_W} {p1 : Int32} {p2 : Int32} {S : sn_S} {Q : Int32 → Prop} (h : wpX9_fits p1 p2 Q) : sn_Ct LoM w yX9_fits (ws_ yX9_fits cX9_fits 2 (some .boolean)) rmX9_fits [.int p1, .int p2] S (sn_qI (fun r S1 => S1 = S ∧ Q r)) sn_noE := sn_Ct_of (LoM_X w) (by decide) (Nat.le_of_ble_eq_true rfl) RX9 rfl (fun C hO => wkX9_fits hO p1 p2 S Q h)
def rmX9_isSnail : Room := { frames := 1, cells := 0, slots := 0, locals := 25 }
/-- SnailPostModel.isSnail(I)Z -/
def wpX9_isSnail (p1 : Int32) (S : sn_S) (Q : Int32 → Prop) : Prop :=
  (vp_in 0 5680 ∧ wpX9_in (Int32.toInt64 p1) 0 ((Int32.toInt64 (S.1 2 (0 : Int32).toNatClampNeg)) - 1) (fun (r1 : Int32) => (narrow .boolean (.int r1) = .int r1 ∧ Q r1)))
theorem wkX9_isSnail {w : sn_W} {C : sn_C} (hO : sn_Ok LoM w C RX9 cX9_isSnail 2 (some .boolean) [] "isSnail") (p1 : Int32) (S : sn_S) (Q : Int32 → Prop) : wpX9_isSnail p1 S Q → sn_G LoM w rmX9_isSnail (sn_qI (fun r S1 => S1 = S ∧ Q r)) sn_noE C 0 0 0 [(0, .ref (w.2.2.1 0)), (1, .int p1)] [] S := by
  unfold wpX9_isSnail
  generalize hQq : (sn_qI (fun r S1 => S1 = S ∧ Q r)) = Qq
  refine sn_iload_n hO 1 rfl dX9_isSnail_0 ?_
  refine sn_i2l hO dX9_isSnail_1 ?_
  refine sn_lconst hO (v := 0) rfl dX9_isSnail_2 ?_
  refine sn_aload_n hO 0 rfl dX9_isSnail_3 ?_
  refine sn_getF hO fmX9_13 atM_0 dX9_isSnail_4 ?_
  refine sn_iconst hO kc_0 dX9_isSnail_7 ?_
  refine sn_iald hO atM_2 rfl dX9_isSnail_8 ?_
  refine sn_i2l hO dX9_isSnail_9 ?_
  refine sn_lconst hO (v := 1) rfl dX9_isSnail_10 ?_
  refine sn_lsub hO dX9_isSnail_11 ?_
  refine sn_callS hO (c2 := 0) (s2 := 0) [.long (Int32.toInt64 p1), .long 0, .long ((Int32.toInt64 (S.1 2 (0 : Int32).toNatClampNeg)) - 1)] csX9_160 ctX9_in ⟨Nat.le_of_ble_eq_true rfl, Nat.le_of_ble_eq_true rfl⟩ rfl rfl (Nat.le_of_ble_eq_true rfl) ⟨Nat.le_of_ble_eq_true rfl, Nat.le_of_ble_eq_true rfl, rfl, rfl⟩ dX9_isSnail_12 (sn_bIp (fun r1 => ?_)) sn_x0
  subst hQq
  exact fun h => sn_zretP hO rfl dX9_isSnail_15 ⟨h.1, rfl, h.2⟩
theorem ctX9_isSnail {w : sn_W} {p1 : Int32} {S : sn_S} {Q : Int32 → Prop} (h : wpX9_isSnail p1 S Q) : sn_Ct LoM w yX9_isSnail (ws_ yX9_isSnail cX9_isSnail 2 (some .boolean)) rmX9_isSnail [.ref (w.2.2.1 0), .int p1] S (sn_qI (fun r S1 => S1 = S ∧ Q r)) sn_noE := sn_Ct_of (LoM_X w) (by decide) (Nat.le_of_ble_eq_true rfl) RX9 rfl (fun C hO => wkX9_isSnail hO p1 S Q h)
def rmX9_put : Room := { frames := 3, cells := 0, slots := 0, locals := 66 }
/-- SnailPostModel.put(III)I -/
def wpX9_put (p1 : Int32) (p2 : Int32) (p3 : Int32) (S : sn_S) (Q : Int32 → sn_S → Prop) : Prop :=
  sn_lt (sn_pI S 0 0 0) (fun S1 => wpX9_fits p2 p3 (fun (r2 : Int32) => ((¬ r2 = 0 → wpX9_isSnail p1 S1 (fun (r3 : Int32) => ((¬ r3 = 0 → sn_jn (κ := Prop) (wpX9_change ((16 + (6 * p1)) + p2) p3 S1 (fun (r5 : Int32) (S6 : sn_S) => Q r5 S6)) (fun (k4 : Prop) => ((2 ≤ p2 → k4) ∧ (¬ 2 ≤ p2 → (vp_in (176 + p3) 5680 ∧ ((¬ (S1.1 2 ((176 + p3)).toNatClampNeg) = 1 → k4) ∧ ((S1.1 2 ((176 + p3)).toNatClampNeg) = 1 → wpX9_tell (-3) S1 (fun (r7 : Int32) (S8 : sn_S) => Q r7 S8)))))))) ∧ (r3 = 0 → wpX9_tell (-2) S1 (fun (r9 : Int32) (S10 : sn_S) => Q r9 S10))))) ∧ (r2 = 0 → wpX9_tell (-1) S1 (fun (r11 : Int32) (S12 : sn_S) => Q r11 S12)))))
theorem wkX9_put {w : sn_W} {C : sn_C} (hO : sn_Ok LoM w C RX9 cX9_put 4 (some .int) [] "put") (p1 : Int32) (p2 : Int32) (p3 : Int32) (S : sn_S) (Q : Int32 → sn_S → Prop) : wpX9_put p1 p2 p3 S Q → sn_G LoM w rmX9_put (sn_qI Q) sn_noE C 0 0 0 [(0, .ref (w.2.2.1 0)), (1, .int p1), (2, .int p2), (3, .int p3)] [] S := by
  unfold wpX9_put
  generalize hQq : (sn_qI Q) = Qq
  refine sn_aload_n hO 0 rfl dX9_put_0 ?_
  refine sn_iconst hO kc_0 dX9_put_1 ?_
  refine sn_putI hO fmX9_150 atM_0 rfl rfl dX9_put_2 ?_
  refine sn_nmS (fun S1 => ?_)
  refine sn_iload_n hO 2 rfl dX9_put_5 ?_
  refine sn_iload_n hO 3 rfl dX9_put_6 ?_
  refine sn_callS hO (c2 := 0) (s2 := 0) [.int p2, .int p3] csX9_193 ctX9_fits ⟨Nat.le_of_ble_eq_true rfl, Nat.le_of_ble_eq_true rfl⟩ rfl rfl (Nat.le_of_ble_eq_true rfl) ⟨Nat.le_of_ble_eq_true rfl, Nat.le_of_ble_eq_true rfl, rfl, rfl⟩ dX9_put_7 (sn_bIp (fun r2 => ?_)) sn_x0
  refine sn_if_ne hO 19 (by decide) dX9_put_10 ?_ ?_
  · refine sn_aload_n hO 0 rfl dX9_put_19 ?_
    refine sn_iload_n hO 1 rfl dX9_put_20 ?_
    refine sn_callV hO (c2 := 0) (s2 := 0) [.int p1] cvX9_197 (fun _ => sn_Rv_K atM_0) ctX9_isSnail ⟨Nat.le_of_ble_eq_true rfl, Nat.le_of_ble_eq_true rfl⟩ rfl rfl (Nat.le_of_ble_eq_true rfl) ⟨Nat.le_of_ble_eq_true rfl, Nat.le_of_ble_eq_true rfl, rfl, rfl⟩ dX9_put_21 (sn_bIp (fun r3 => ?_)) sn_x0
    refine sn_if_ne hO 34 (by decide) dX9_put_24 ?_ ?_
    · refine sn_iload_n hO 2 rfl dX9_put_34 ?_
      refine sn_iconst hO kc_2 dX9_put_35 ?_
      refine sn_jn_walk (fun (k : Prop) => k → sn_G LoM w rmX9_put Qq sn_noE C 0 0 62 [(0, .ref (w.2.2.1 0)), (1, .int p1), (2, .int p2), (3, .int p3)] [] S1) ?_ ?_
      · refine sn_aload_n hO 0 rfl dX9_put_62 ?_
        refine sn_bipush hO kb_16 dX9_put_63 ?_
        refine sn_bipush hO kb_6 dX9_put_65 ?_
        refine sn_iload_n hO 1 rfl dX9_put_67 ?_
        refine sn_imul hO dX9_put_68 ?_
        refine sn_iadd hO dX9_put_69 ?_
        refine sn_iload_n hO 2 rfl dX9_put_70 ?_
        refine sn_iadd hO dX9_put_71 ?_
        refine sn_iload_n hO 3 rfl dX9_put_72 ?_
        refine sn_callV hO (c2 := 0) (s2 := 0) [.int ((16 + (6 * p1)) + p2), .int p3] cvX9_179 (fun _ => sn_Rv_K atM_0) ctX9_change ⟨Nat.le_of_ble_eq_true rfl, Nat.le_of_ble_eq_true rfl⟩ rfl rfl (Nat.le_of_ble_eq_true rfl) ⟨Nat.le_of_ble_eq_true rfl, Nat.le_of_ble_eq_true rfl, rfl, rfl⟩ dX9_put_73 (sn_bI (fun r5 S6 => ?_)) sn_x0
        subst hQq
        exact sn_iret hO rfl dX9_put_76
      · intro k4 hk4
        refine sn_icmp_ge hO 62 (by decide) dX9_put_36 ?_ ?_
        · exact hk4
        · refine sn_aload_n hO 0 rfl dX9_put_39 ?_
          refine sn_getF hO fmX9_13 atM_0 dX9_put_40 ?_
          refine sn_sipush hO ks_176 dX9_put_43 ?_
          refine sn_iload_n hO 3 rfl dX9_put_46 ?_
          refine sn_iadd hO dX9_put_47 ?_
          refine sn_iald hO atM_2 rfl dX9_put_48 ?_
          refine sn_iconst hO kc_1 dX9_put_49 ?_
          refine sn_icmp_ne hO 62 (by decide) dX9_put_50 ?_ ?_
          · exact hk4
          · refine sn_aload_n hO 0 rfl dX9_put_53 ?_
            refine sn_bipush hO kb_m3 dX9_put_54 ?_
            refine sn_callV hO (c2 := 0) (s2 := 0) [.int (-3)] cvX9_164 (fun _ => sn_Rv_K atM_0) ctX9_tell ⟨Nat.le_of_ble_eq_true rfl, Nat.le_of_ble_eq_true rfl⟩ rfl rfl (Nat.le_of_ble_eq_true rfl) ⟨Nat.le_of_ble_eq_true rfl, Nat.le_of_ble_eq_true rfl, rfl, rfl⟩ dX9_put_56 (sn_bI (fun r7 S8 => ?_)) sn_x0
            refine sn_goto hO 76 (by decide) dX9_put_59 ?_
            subst hQq
            exact sn_iret hO rfl dX9_put_76
    · refine sn_aload_n hO 0 rfl dX9_put_27 ?_
      refine sn_bipush hO kb_m2 dX9_put_28 ?_
      refine sn_callV hO (c2 := 0) (s2 := 0) [.int (-2)] cvX9_164 (fun _ => sn_Rv_K atM_0) ctX9_tell ⟨Nat.le_of_ble_eq_true rfl, Nat.le_of_ble_eq_true rfl⟩ rfl rfl (Nat.le_of_ble_eq_true rfl) ⟨Nat.le_of_ble_eq_true rfl, Nat.le_of_ble_eq_true rfl, rfl, rfl⟩ dX9_put_30 (sn_bI (fun r9 S10 => ?_)) sn_x0
      subst hQq
      exact sn_iret hO rfl dX9_put_33
  · refine sn_aload_n hO 0 rfl dX9_put_13 ?_
    refine sn_iconst hO kc_m1 dX9_put_14 ?_
    refine sn_callV hO (c2 := 0) (s2 := 0) [.int (-1)] cvX9_164 (fun _ => sn_Rv_K atM_0) ctX9_tell ⟨Nat.le_of_ble_eq_true rfl, Nat.le_of_ble_eq_true rfl⟩ rfl rfl (Nat.le_of_ble_eq_true rfl) ⟨Nat.le_of_ble_eq_true rfl, Nat.le_of_ble_eq_true rfl, rfl, rfl⟩ dX9_put_15 (sn_bI (fun r11 S12 => ?_)) sn_x0
    subst hQq
    exact sn_iret hO rfl dX9_put_18
theorem ctX9_put {w : sn_W} {p1 : Int32} {p2 : Int32} {p3 : Int32} {S : sn_S} {Q : Int32 → sn_S → Prop} (h : wpX9_put p1 p2 p3 S Q) : sn_Ct LoM w yX9_put (ws_ yX9_put cX9_put 4 (some .int)) rmX9_put [.ref (w.2.2.1 0), .int p1, .int p2, .int p3] S (sn_qI Q) sn_noE := sn_Ct_of (LoM_X w) (by decide) (Nat.le_of_ble_eq_true rfl) RX9 rfl (fun C hO => wkX9_put hO p1 p2 p3 S Q h)
def rmX9_fact : Room := { frames := 2, cells := 0, slots := 0, locals := 46 }
/-- SnailPostModel.fact(II)I -/
def wpX9_fact (p1 : Int32) (p2 : Int32) (S : sn_S) (Q : Int32 → sn_S → Prop) : Prop :=
  sn_lt (sn_pI S 0 0 0) (fun S1 => wpX9_isSnail p1 S1 (fun (r2 : Int32) => ((r2 = 0 → Q (-1) S1) ∧ (¬ r2 = 0 → wpX9_in (Int32.toInt64 p2) 0 5 (fun (r3 : Int32) => ((r3 = 0 → Q (-1) S1) ∧ (¬ r3 = 0 → wpX9_ofSnail p1 p2 S1 (fun (r4 : Int32) => Q r4 S1))))))))
theorem wkX9_fact {w : sn_W} {C : sn_C} (hO : sn_Ok LoM w C RX9 cX9_fact 3 (some .int) [] "fact") (p1 : Int32) (p2 : Int32) (S : sn_S) (Q : Int32 → sn_S → Prop) : wpX9_fact p1 p2 S Q → sn_G LoM w rmX9_fact (sn_qI Q) sn_noE C 0 0 0 [(0, .ref (w.2.2.1 0)), (1, .int p1), (2, .int p2)] [] S := by
  unfold wpX9_fact
  generalize hQq : (sn_qI Q) = Qq
  refine sn_aload_n hO 0 rfl dX9_fact_0 ?_
  refine sn_iconst hO kc_0 dX9_fact_1 ?_
  refine sn_putI hO fmX9_150 atM_0 rfl rfl dX9_fact_2 ?_
  refine sn_nmS (fun S1 => ?_)
  refine sn_aload_n hO 0 rfl dX9_fact_5 ?_
  refine sn_iload_n hO 1 rfl dX9_fact_6 ?_
  refine sn_callV hO (c2 := 0) (s2 := 0) [.int p1] cvX9_197 (fun _ => sn_Rv_K atM_0) ctX9_isSnail ⟨Nat.le_of_ble_eq_true rfl, Nat.le_of_ble_eq_true rfl⟩ rfl rfl (Nat.le_of_ble_eq_true rfl) ⟨Nat.le_of_ble_eq_true rfl, Nat.le_of_ble_eq_true rfl, rfl, rfl⟩ dX9_fact_7 (sn_bIp (fun r2 => ?_)) sn_x0
  refine sn_if_eq hO 34 (by decide) dX9_fact_10 ?_ ?_
  · refine sn_iconst hO kc_m1 dX9_fact_34 ?_
    subst hQq
    exact sn_iret hO rfl dX9_fact_35
  · refine sn_iload_n hO 2 rfl dX9_fact_13 ?_
    refine sn_i2l hO dX9_fact_14 ?_
    refine sn_lconst hO (v := 0) rfl dX9_fact_15 ?_
    refine sn_ldc2 hO q1705 dX9_fact_16 ?_
    refine sn_callS hO (c2 := 0) (s2 := 0) [.long (Int32.toInt64 p2), .long 0, .long 5] csX9_160 ctX9_in ⟨Nat.le_of_ble_eq_true rfl, Nat.le_of_ble_eq_true rfl⟩ rfl rfl (Nat.le_of_ble_eq_true rfl) ⟨Nat.le_of_ble_eq_true rfl, Nat.le_of_ble_eq_true rfl, rfl, rfl⟩ dX9_fact_19 (sn_bIp (fun r3 => ?_)) sn_x0
    refine sn_if_eq hO 34 (by decide) dX9_fact_22 ?_ ?_
    · refine sn_iconst hO kc_m1 dX9_fact_34 ?_
      subst hQq
      exact sn_iret hO rfl dX9_fact_35
    · refine sn_aload_n hO 0 rfl dX9_fact_25 ?_
      refine sn_iload_n hO 1 rfl dX9_fact_26 ?_
      refine sn_iload_n hO 2 rfl dX9_fact_27 ?_
      refine sn_callV hO (c2 := 0) (s2 := 0) [.int p1, .int p2] cvX9_169 (fun _ => sn_Rv_K atM_0) ctX9_ofSnail ⟨Nat.le_of_ble_eq_true rfl, Nat.le_of_ble_eq_true rfl⟩ rfl rfl (Nat.le_of_ble_eq_true rfl) ⟨Nat.le_of_ble_eq_true rfl, Nat.le_of_ble_eq_true rfl, rfl, rfl⟩ dX9_fact_28 (sn_bIp (fun r4 => ?_)) sn_x0
      refine sn_goto hO 35 (by decide) dX9_fact_31 ?_
      subst hQq
      exact sn_iret hO rfl dX9_fact_35
theorem ctX9_fact {w : sn_W} {p1 : Int32} {p2 : Int32} {S : sn_S} {Q : Int32 → sn_S → Prop} (h : wpX9_fact p1 p2 S Q) : sn_Ct LoM w yX9_fact (ws_ yX9_fact cX9_fact 3 (some .int)) rmX9_fact [.ref (w.2.2.1 0), .int p1, .int p2] S (sn_qI Q) sn_noE := sn_Ct_of (LoM_X w) (by decide) (Nat.le_of_ble_eq_true rfl) RX9 rfl (fun C hO => wkX9_fact hO p1 p2 S Q h)
def rmX9_spot : Room := { frames := 2, cells := 0, slots := 0, locals := 45 }
/-- SnailPostModel.spot(I)I -/
def wpX9_spot (p1 : Int32) (S : sn_S) (Q : Int32 → sn_S → Prop) : Prop :=
  sn_lt (sn_pI S 0 0 0) (fun S1 => wpX9_isCell p1 (fun (r2 : Int32) => ((¬ r2 = 0 → (vp_in 1 5680 ∧ sn_lt (S1.1 2 (1 : Int32).toNatClampNeg) (fun x3 => ((¬ x3 = 4 → (vp_in (12 + x3) 5680 ∧ sn_lt (sn_pI S1 2 ((12 + x3)).toNatClampNeg p1) (fun S4 => (vp_in 1 5680 ∧ (vp_in 1 5680 ∧ sn_lt (sn_pI S4 2 (1 : Int32).toNatClampNeg ((S4.1 2 (1 : Int32).toNatClampNeg) + 1)) (fun S5 => wpX9_tell x3 S5 (fun (r6 : Int32) (S7 : sn_S) => Q r6 S7))))))) ∧ (x3 = 4 → wpX9_tell (-5) S1 (fun (r8 : Int32) (S9 : sn_S) => Q r8 S9)))))) ∧ (r2 = 0 → wpX9_tell (-1) S1 (fun (r10 : Int32) (S11 : sn_S) => Q r10 S11)))))
theorem wkX9_spot {w : sn_W} {C : sn_C} (hO : sn_Ok LoM w C RX9 cX9_spot 3 (some .int) [] "spot") (p1 : Int32) (S : sn_S) (Q : Int32 → sn_S → Prop) : wpX9_spot p1 S Q → sn_G LoM w rmX9_spot (sn_qI Q) sn_noE C 0 0 0 [(0, .ref (w.2.2.1 0)), (1, .int p1)] [] S := by
  unfold wpX9_spot
  generalize hQq : (sn_qI Q) = Qq
  refine sn_aload_n hO 0 rfl dX9_spot_0 ?_
  refine sn_iconst hO kc_0 dX9_spot_1 ?_
  refine sn_putI hO fmX9_150 atM_0 rfl rfl dX9_spot_2 ?_
  refine sn_nmS (fun S1 => ?_)
  refine sn_iload_n hO 1 rfl dX9_spot_5 ?_
  refine sn_callS hO (c2 := 0) (s2 := 0) [.int p1] csX9_173 ctX9_isCell ⟨Nat.le_of_ble_eq_true rfl, Nat.le_of_ble_eq_true rfl⟩ rfl rfl (Nat.le_of_ble_eq_true rfl) ⟨Nat.le_of_ble_eq_true rfl, Nat.le_of_ble_eq_true rfl, rfl, rfl⟩ dX9_spot_6 (sn_bIp (fun r2 => ?_)) sn_x0
  refine sn_if_ne hO 18 (by decide) dX9_spot_9 ?_ ?_
  · refine sn_aload_n hO 0 rfl dX9_spot_18 ?_
    refine sn_getF hO fmX9_13 atM_0 dX9_spot_19 ?_
    refine sn_iconst hO kc_1 dX9_spot_22 ?_
    refine sn_iald hO atM_2 rfl dX9_spot_23 ?_
    refine sn_nmI (fun x3 => ?_)
    refine sn_istore_n hO (lv' := [(2, .int x3), (0, .ref (w.2.2.1 0)), (1, .int p1)]) (by decide) rfl dX9_spot_24 ?_
    refine sn_iload_n hO 0 rfl dX9_spot_25 ?_
    refine sn_iconst hO kc_4 dX9_spot_26 ?_
    refine sn_icmp_ne hO 37 (by decide) dX9_spot_27 ?_ ?_
    · refine sn_aload_n hO 1 rfl dX9_spot_37 ?_
      refine sn_getF hO fmX9_13 atM_0 dX9_spot_38 ?_
      refine sn_bipush hO kb_12 dX9_spot_41 ?_
      refine sn_iload_n hO 0 rfl dX9_spot_43 ?_
      refine sn_iadd hO dX9_spot_44 ?_
      refine sn_iload_n hO 2 rfl dX9_spot_45 ?_
      refine sn_iast hO atM_2 rfl dX9_spot_46 ?_
      refine sn_nmS (fun S4 => ?_)
      refine sn_aload_n hO 1 rfl dX9_spot_47 ?_
      refine sn_getF hO fmX9_13 atM_0 dX9_spot_48 ?_
      refine sn_iconst hO kc_1 dX9_spot_51 ?_
      refine sn_dup2 hO rfl rfl dX9_spot_52 ?_
      refine sn_iald hO atM_2 rfl dX9_spot_53 ?_
      refine sn_iconst hO kc_1 dX9_spot_54 ?_
      refine sn_iadd hO dX9_spot_55 ?_
      refine sn_iast hO atM_2 rfl dX9_spot_56 ?_
      refine sn_nmS (fun S5 => ?_)
      refine sn_aload_n hO 1 rfl dX9_spot_57 ?_
      refine sn_iload_n hO 0 rfl dX9_spot_58 ?_
      refine sn_callV hO (c2 := 0) (s2 := 0) [.int x3] cvX9_164 (fun _ => sn_Rv_K atM_0) ctX9_tell ⟨Nat.le_of_ble_eq_true rfl, Nat.le_of_ble_eq_true rfl⟩ rfl rfl (Nat.le_of_ble_eq_true rfl) ⟨Nat.le_of_ble_eq_true rfl, Nat.le_of_ble_eq_true rfl, rfl, rfl⟩ dX9_spot_59 (sn_bI (fun r6 S7 => ?_)) sn_x0
      subst hQq
      exact sn_iret hO rfl dX9_spot_62
    · refine sn_aload_n hO 1 rfl dX9_spot_30 ?_
      refine sn_bipush hO kb_m5 dX9_spot_31 ?_
      refine sn_callV hO (c2 := 0) (s2 := 0) [.int (-5)] cvX9_164 (fun _ => sn_Rv_K atM_0) ctX9_tell ⟨Nat.le_of_ble_eq_true rfl, Nat.le_of_ble_eq_true rfl⟩ rfl rfl (Nat.le_of_ble_eq_true rfl) ⟨Nat.le_of_ble_eq_true rfl, Nat.le_of_ble_eq_true rfl, rfl, rfl⟩ dX9_spot_33 (sn_bI (fun r8 S9 => ?_)) sn_x0
      subst hQq
      exact sn_iret hO rfl dX9_spot_36
  · refine sn_aload_n hO 0 rfl dX9_spot_12 ?_
    refine sn_iconst hO kc_m1 dX9_spot_13 ?_
    refine sn_callV hO (c2 := 0) (s2 := 0) [.int (-1)] cvX9_164 (fun _ => sn_Rv_K atM_0) ctX9_tell ⟨Nat.le_of_ble_eq_true rfl, Nat.le_of_ble_eq_true rfl⟩ rfl rfl (Nat.le_of_ble_eq_true rfl) ⟨Nat.le_of_ble_eq_true rfl, Nat.le_of_ble_eq_true rfl, rfl, rfl⟩ dX9_spot_14 (sn_bI (fun r10 S11 => ?_)) sn_x0
    subst hQq
    exact sn_iret hO rfl dX9_spot_17
theorem ctX9_spot {w : sn_W} {p1 : Int32} {S : sn_S} {Q : Int32 → sn_S → Prop} (h : wpX9_spot p1 S Q) : sn_Ct LoM w yX9_spot (ws_ yX9_spot cX9_spot 3 (some .int)) rmX9_spot [.ref (w.2.2.1 0), .int p1] S (sn_qI Q) sn_noE := sn_Ct_of (LoM_X w) (by decide) (Nat.le_of_ble_eq_true rfl) RX9 rfl (fun C hO => wkX9_spot hO p1 S Q h)
def rmX9_plan : Room := { frames := 2, cells := 0, slots := 0, locals := 44 }
/-- SnailPostModel.plan(II)I -/
def wpX9_plan (p1 : Int32) (p2 : Int32) (S : sn_S) (Q : Int32 → sn_S → Prop) : Prop :=
  sn_lt (sn_pI S 0 0 0) (fun S1 => wpX9_in (Int32.toInt64 p1) 0 4 (fun (r2 : Int32) => ((¬ r2 = 0 → sn_jn (κ := Prop) (wpX9_change (7 + p1) p2 S1 (fun (r4 : Int32) (S5 : sn_S) => Q r4 S5)) (fun (k3 : Prop) => ((p2 = (-1) → k3) ∧ (¬ p2 = (-1) → (vp_in 1 5680 ∧ wpX9_in (Int32.toInt64 p2) 0 ((Int32.toInt64 (S1.1 2 (1 : Int32).toNatClampNeg)) - 1) (fun (r6 : Int32) => ((r6 = 0 → wpX9_tell (-2) S1 (fun (r7 : Int32) (S8 : sn_S) => Q r7 S8)) ∧ (¬ r6 = 0 → k3)))))))) ∧ (r2 = 0 → wpX9_tell (-1) S1 (fun (r9 : Int32) (S10 : sn_S) => Q r9 S10)))))
theorem wkX9_plan {w : sn_W} {C : sn_C} (hO : sn_Ok LoM w C RX9 cX9_plan 3 (some .int) [] "plan") (p1 : Int32) (p2 : Int32) (S : sn_S) (Q : Int32 → sn_S → Prop) : wpX9_plan p1 p2 S Q → sn_G LoM w rmX9_plan (sn_qI Q) sn_noE C 0 0 0 [(0, .ref (w.2.2.1 0)), (1, .int p1), (2, .int p2)] [] S := by
  unfold wpX9_plan
  generalize hQq : (sn_qI Q) = Qq
  refine sn_aload_n hO 0 rfl dX9_plan_0 ?_
  refine sn_iconst hO kc_0 dX9_plan_1 ?_
  refine sn_putI hO fmX9_150 atM_0 rfl rfl dX9_plan_2 ?_
  refine sn_nmS (fun S1 => ?_)
  refine sn_iload_n hO 1 rfl dX9_plan_5 ?_
  refine sn_i2l hO dX9_plan_6 ?_
  refine sn_lconst hO (v := 0) rfl dX9_plan_7 ?_
  refine sn_ldc2 hO q1687 dX9_plan_8 ?_
  refine sn_callS hO (c2 := 0) (s2 := 0) [.long (Int32.toInt64 p1), .long 0, .long 4] csX9_160 ctX9_in ⟨Nat.le_of_ble_eq_true rfl, Nat.le_of_ble_eq_true rfl⟩ rfl rfl (Nat.le_of_ble_eq_true rfl) ⟨Nat.le_of_ble_eq_true rfl, Nat.le_of_ble_eq_true rfl, rfl, rfl⟩ dX9_plan_11 (sn_bIp (fun r2 => ?_)) sn_x0
  refine sn_if_ne hO 23 (by decide) dX9_plan_14 ?_ ?_
  · refine sn_iload_n hO 2 rfl dX9_plan_23 ?_
    refine sn_iconst hO kc_m1 dX9_plan_24 ?_
    refine sn_jn_walk (fun (k : Prop) => k → sn_G LoM w rmX9_plan Qq sn_noE C 0 0 46 [(0, .ref (w.2.2.1 0)), (1, .int p1), (2, .int p2)] [] S1) ?_ ?_
    · refine sn_aload_n hO 0 rfl dX9_plan_46 ?_
      refine sn_bipush hO kb_7 dX9_plan_47 ?_
      refine sn_iload_n hO 1 rfl dX9_plan_49 ?_
      refine sn_iadd hO dX9_plan_50 ?_
      refine sn_iload_n hO 2 rfl dX9_plan_51 ?_
      refine sn_callV hO (c2 := 0) (s2 := 0) [.int (7 + p1), .int p2] cvX9_179 (fun _ => sn_Rv_K atM_0) ctX9_change ⟨Nat.le_of_ble_eq_true rfl, Nat.le_of_ble_eq_true rfl⟩ rfl rfl (Nat.le_of_ble_eq_true rfl) ⟨Nat.le_of_ble_eq_true rfl, Nat.le_of_ble_eq_true rfl, rfl, rfl⟩ dX9_plan_52 (sn_bI (fun r4 S5 => ?_)) sn_x0
      refine sn_goto hO 64 (by decide) dX9_plan_55 ?_
      subst hQq
      exact sn_iret hO rfl dX9_plan_64
    · intro k3 hk3
      refine sn_icmp_eq hO 46 (by decide) dX9_plan_25 ?_ ?_
      · exact hk3
      · refine sn_iload_n hO 2 rfl dX9_plan_28 ?_
        refine sn_i2l hO dX9_plan_29 ?_
        refine sn_lconst hO (v := 0) rfl dX9_plan_30 ?_
        refine sn_aload_n hO 0 rfl dX9_plan_31 ?_
        refine sn_getF hO fmX9_13 atM_0 dX9_plan_32 ?_
        refine sn_iconst hO kc_1 dX9_plan_35 ?_
        refine sn_iald hO atM_2 rfl dX9_plan_36 ?_
        refine sn_i2l hO dX9_plan_37 ?_
        refine sn_lconst hO (v := 1) rfl dX9_plan_38 ?_
        refine sn_lsub hO dX9_plan_39 ?_
        refine sn_callS hO (c2 := 0) (s2 := 0) [.long (Int32.toInt64 p2), .long 0, .long ((Int32.toInt64 (S1.1 2 (1 : Int32).toNatClampNeg)) - 1)] csX9_160 ctX9_in ⟨Nat.le_of_ble_eq_true rfl, Nat.le_of_ble_eq_true rfl⟩ rfl rfl (Nat.le_of_ble_eq_true rfl) ⟨Nat.le_of_ble_eq_true rfl, Nat.le_of_ble_eq_true rfl, rfl, rfl⟩ dX9_plan_40 (sn_bIp (fun r6 => ?_)) sn_x0
        refine sn_if_eq hO 58 (by decide) dX9_plan_43 ?_ ?_
        · refine sn_aload_n hO 0 rfl dX9_plan_58 ?_
          refine sn_bipush hO kb_m2 dX9_plan_59 ?_
          refine sn_callV hO (c2 := 0) (s2 := 0) [.int (-2)] cvX9_164 (fun _ => sn_Rv_K atM_0) ctX9_tell ⟨Nat.le_of_ble_eq_true rfl, Nat.le_of_ble_eq_true rfl⟩ rfl rfl (Nat.le_of_ble_eq_true rfl) ⟨Nat.le_of_ble_eq_true rfl, Nat.le_of_ble_eq_true rfl, rfl, rfl⟩ dX9_plan_61 (sn_bI (fun r7 S8 => ?_)) sn_x0
          subst hQq
          exact sn_iret hO rfl dX9_plan_64
        · exact hk3
  · refine sn_aload_n hO 0 rfl dX9_plan_17 ?_
    refine sn_iconst hO kc_m1 dX9_plan_18 ?_
    refine sn_callV hO (c2 := 0) (s2 := 0) [.int (-1)] cvX9_164 (fun _ => sn_Rv_K atM_0) ctX9_tell ⟨Nat.le_of_ble_eq_true rfl, Nat.le_of_ble_eq_true rfl⟩ rfl rfl (Nat.le_of_ble_eq_true rfl) ⟨Nat.le_of_ble_eq_true rfl, Nat.le_of_ble_eq_true rfl, rfl, rfl⟩ dX9_plan_19 (sn_bI (fun r9 S10 => ?_)) sn_x0
    subst hQq
    exact sn_iret hO rfl dX9_plan_22
theorem ctX9_plan {w : sn_W} {p1 : Int32} {p2 : Int32} {S : sn_S} {Q : Int32 → sn_S → Prop} (h : wpX9_plan p1 p2 S Q) : sn_Ct LoM w yX9_plan (ws_ yX9_plan cX9_plan 3 (some .int)) rmX9_plan [.ref (w.2.2.1 0), .int p1, .int p2] S (sn_qI Q) sn_noE := sn_Ct_of (LoM_X w) (by decide) (Nat.le_of_ble_eq_true rfl) RX9 rfl (fun C hO => wkX9_plan hO p1 p2 S Q h)
def rmX9_terms : Room := { frames := 2, cells := 0, slots := 0, locals := 44 }
/-- SnailPostModel.terms(II)I -/
def wpX9_terms (p1 : Int32) (p2 : Int32) (S : sn_S) (Q : Int32 → sn_S → Prop) : Prop :=
  sn_lt (sn_pI S 0 0 0) (fun S1 => sn_jn (fun (v2 : Int32) => ((v2 = 0 → wpX9_tell (-1) S1 (fun (r4 : Int32) (S5 : sn_S) => Q r4 S5)) ∧ (¬ v2 = 0 → wpX9_change (5 + p1) p2 S1 (fun (r6 : Int32) (S7 : sn_S) => Q r6 S7)))) (fun (k3 : Int32 → Prop) => ((¬ p1 = 0 → sn_jn (κ := Prop) (k3 0) (fun (k8 : Prop) => ((¬ p1 = 1 → k8) ∧ (p1 = 1 → wpX9_in (Int32.toInt64 p2) 1 20 (fun (r9 : Int32) => ((r9 = 0 → k8) ∧ (¬ r9 = 0 → k3 1))))))) ∧ (p1 = 0 → wpX9_in (Int32.toInt64 p2) 1 6 (fun (r10 : Int32) => k3 r10)))))
theorem wkX9_terms {w : sn_W} {C : sn_C} (hO : sn_Ok LoM w C RX9 cX9_terms 4 (some .int) [] "terms") (p1 : Int32) (p2 : Int32) (S : sn_S) (Q : Int32 → sn_S → Prop) : wpX9_terms p1 p2 S Q → sn_G LoM w rmX9_terms (sn_qI Q) sn_noE C 0 0 0 [(0, .ref (w.2.2.1 0)), (1, .int p1), (2, .int p2)] [] S := by
  unfold wpX9_terms
  generalize hQq : (sn_qI Q) = Qq
  refine sn_aload_n hO 0 rfl dX9_terms_0 ?_
  refine sn_iconst hO kc_0 dX9_terms_1 ?_
  refine sn_putI hO fmX9_150 atM_0 rfl rfl dX9_terms_2 ?_
  refine sn_nmS (fun S1 => ?_)
  refine sn_iload_n hO 1 rfl dX9_terms_5 ?_
  refine sn_jn_walk (fun (k : Int32 → Prop) => ∀ (v2 : Int32), k v2 → sn_G LoM w rmX9_terms Qq sn_noE C 0 0 43 [(0, .ref (w.2.2.1 0)), (1, .int p1), (2, .int p2)] [.int v2] S1) ?_ ?_
  · intro v2
    refine sn_istore_n hO (lv' := [(3, .int v2), (0, .ref (w.2.2.1 0)), (1, .int p1), (2, .int p2)]) (by decide) rfl dX9_terms_43 ?_
    refine sn_iload_n hO 0 rfl dX9_terms_44 ?_
    refine sn_if_eq hO 59 (by decide) dX9_terms_45 ?_ ?_
    · refine sn_aload_n hO 1 rfl dX9_terms_59 ?_
      refine sn_iconst hO kc_m1 dX9_terms_60 ?_
      refine sn_callV hO (c2 := 0) (s2 := 0) [.int (-1)] cvX9_164 (fun _ => sn_Rv_K atM_0) ctX9_tell ⟨Nat.le_of_ble_eq_true rfl, Nat.le_of_ble_eq_true rfl⟩ rfl rfl (Nat.le_of_ble_eq_true rfl) ⟨Nat.le_of_ble_eq_true rfl, Nat.le_of_ble_eq_true rfl, rfl, rfl⟩ dX9_terms_61 (sn_bI (fun r4 S5 => ?_)) sn_x0
      subst hQq
      exact sn_iret hO rfl dX9_terms_64
    · refine sn_aload_n hO 1 rfl dX9_terms_48 ?_
      refine sn_iconst hO kc_5 dX9_terms_49 ?_
      refine sn_iload_n hO 2 rfl dX9_terms_50 ?_
      refine sn_iadd hO dX9_terms_51 ?_
      refine sn_iload_n hO 3 rfl dX9_terms_52 ?_
      refine sn_callV hO (c2 := 0) (s2 := 0) [.int (5 + p1), .int p2] cvX9_179 (fun _ => sn_Rv_K atM_0) ctX9_change ⟨Nat.le_of_ble_eq_true rfl, Nat.le_of_ble_eq_true rfl⟩ rfl rfl (Nat.le_of_ble_eq_true rfl) ⟨Nat.le_of_ble_eq_true rfl, Nat.le_of_ble_eq_true rfl, rfl, rfl⟩ dX9_terms_53 (sn_bI (fun r6 S7 => ?_)) sn_x0
      refine sn_goto hO 64 (by decide) dX9_terms_56 ?_
      subst hQq
      exact sn_iret hO rfl dX9_terms_64
  · intro k3 hk3
    refine sn_if_ne hO 21 (by decide) dX9_terms_6 ?_ ?_
    · refine sn_iload_n hO 1 rfl dX9_terms_21 ?_
      refine sn_iconst hO kc_1 dX9_terms_22 ?_
      refine sn_jn_walk (fun (k : Prop) => k → sn_G LoM w rmX9_terms Qq sn_noE C 0 0 42 [(0, .ref (w.2.2.1 0)), (1, .int p1), (2, .int p2)] [] S1) ?_ ?_
      · refine sn_iconst hO kc_0 dX9_terms_42 ?_
        exact hk3 _
      · intro k8 hk8
        refine sn_icmp_ne hO 42 (by decide) dX9_terms_23 ?_ ?_
        · exact hk8
        · refine sn_iload_n hO 2 rfl dX9_terms_26 ?_
          refine sn_i2l hO dX9_terms_27 ?_
          refine sn_lconst hO (v := 1) rfl dX9_terms_28 ?_
          refine sn_ldc2 hO q1719 dX9_terms_29 ?_
          refine sn_callS hO (c2 := 0) (s2 := 0) [.long (Int32.toInt64 p2), .long 1, .long 20] csX9_160 ctX9_in ⟨Nat.le_of_ble_eq_true rfl, Nat.le_of_ble_eq_true rfl⟩ rfl rfl (Nat.le_of_ble_eq_true rfl) ⟨Nat.le_of_ble_eq_true rfl, Nat.le_of_ble_eq_true rfl, rfl, rfl⟩ dX9_terms_32 (sn_bIp (fun r9 => ?_)) sn_x0
          refine sn_if_eq hO 42 (by decide) dX9_terms_35 ?_ ?_
          · exact hk8
          · refine sn_iconst hO kc_1 dX9_terms_38 ?_
            refine sn_goto hO 43 (by decide) dX9_terms_39 ?_
            exact hk3 _
    · refine sn_iload_n hO 2 rfl dX9_terms_9 ?_
      refine sn_i2l hO dX9_terms_10 ?_
      refine sn_lconst hO (v := 1) rfl dX9_terms_11 ?_
      refine sn_ldc2 hO q1718 dX9_terms_12 ?_
      refine sn_callS hO (c2 := 0) (s2 := 0) [.long (Int32.toInt64 p2), .long 1, .long 6] csX9_160 ctX9_in ⟨Nat.le_of_ble_eq_true rfl, Nat.le_of_ble_eq_true rfl⟩ rfl rfl (Nat.le_of_ble_eq_true rfl) ⟨Nat.le_of_ble_eq_true rfl, Nat.le_of_ble_eq_true rfl, rfl, rfl⟩ dX9_terms_15 (sn_bIp (fun r10 => ?_)) sn_x0
      refine sn_goto hO 43 (by decide) dX9_terms_18 ?_
      exact hk3 _
theorem ctX9_terms {w : sn_W} {p1 : Int32} {p2 : Int32} {S : sn_S} {Q : Int32 → sn_S → Prop} (h : wpX9_terms p1 p2 S Q) : sn_Ct LoM w yX9_terms (ws_ yX9_terms cX9_terms 4 (some .int)) rmX9_terms [.ref (w.2.2.1 0), .int p1, .int p2] S (sn_qI Q) sn_noE := sn_Ct_of (LoM_X w) (by decide) (Nat.le_of_ble_eq_true rfl) RX9 rfl (fun C hO => wkX9_terms hO p1 p2 S Q h)
def rmX9_row : Room := { frames := 2, cells := 0, slots := 0, locals := 45 }
/-- SnailPostModel.row()I -/
def wpX9_row (S : sn_S) (Q : Int32 → sn_S → Prop) : Prop :=
  sn_lt (sn_pI S 0 0 0) (fun S1 => sn_lt (S1.1 0 8) (fun x2 => sn_lt (sn_pI S1 0 8 0) (fun S3 => ((¬ x2 = 0 → sn_lt (sn_pI S3 0 6 0) (fun S4 => sn_jn (fun (v5 : Int32) (S6 : sn_S) => wpX9_tell v5 S6 (fun (r8 : Int32) (S9 : sn_S) => Q r8 S9)) (fun (k7 : Int32 → sn_S → Prop) => sn_lp3 (fun (rc13 : Int32 → Int32 → sn_S → Prop) (i10 : Int32) (i11 : Int32) (S12 : sn_S) => ((x2 ≤ i11 → k7 i10 S12) ∧ (¬ x2 ≤ i11 → sn_jn (fun (v14 : Int32) => sn_jn (fun (v16 : Int32) => sn_jn (fun (S18 : sn_S) => sn_jn (fun (S20 : sn_S) => sn_jn (fun (v22 : Int32) => sn_lt (i10 + v22) (fun x24 => sn_jn (fun (v25 : Int32) => sn_lt (sn_pI S20 0 6 ((S20.1 0 6) + v25)) (fun S27 => rc13 x24 (i11 + 1) S27)) (fun (k26 : Int32 → Prop) => sn_jn (κ := Prop) (k26 0) (fun (k28 : Prop) => ((¬ v14 = 0 → k28) ∧ (v14 = 0 → ((v16 = 0 → k26 1) ∧ (¬ v16 = 0 → k28)))))))) (fun (k23 : Int32 → Prop) => sn_jn (κ := Prop) (k23 1) (fun (k29 : Prop) => ((¬ v14 = 0 → k29) ∧ (v14 = 0 → ((v16 = 0 → k23 0) ∧ (¬ v16 = 0 → k29))))))) (fun (k21 : sn_S → Prop) => ((v16 = 0 → k21 S18) ∧ (¬ v16 = 0 → (vp_in i11 400 ∧ (vp_in (80 + i11) 5680 ∧ sn_lt (sn_pI S18 2 ((80 + i11)).toNatClampNeg (S18.1 5 (i11).toNatClampNeg)) (fun S30 => k21 S30))))))) (fun (k19 : sn_S → Prop) => ((v14 = 0 → k19 S12) ∧ (¬ v14 = 0 → (vp_in (176 + i11) 5680 ∧ sn_lt (sn_pI S12 2 ((176 + i11)).toNatClampNeg 1) (fun S31 => k19 S31)))))) (fun (k17 : Int32 → Prop) => sn_jn (κ := Prop) (k17 0) (fun (k32 : Prop) => ((96 ≤ i11 → k32) ∧ (¬ 96 ≤ i11 → (vp_in i11 400 ∧ ((10 ≤ (S12.1 5 (i11).toNatClampNeg) → k32) ∧ (¬ 10 ≤ (S12.1 5 (i11).toNatClampNeg) → k17 1)))))))) (fun (k15 : Int32 → Prop) => sn_jn (κ := Prop) (k15 0) (fun (k33 : Prop) => ((96 ≤ i11 → k33) ∧ (¬ 96 ≤ i11 → (vp_in i11 400 ∧ ((¬ (S12.1 5 (i11).toNatClampNeg) = 200 → k33) ∧ ((S12.1 5 (i11).toNatClampNeg) = 200 → wpX9_isOfSnails i11 S12 (fun (r34 : Int32) => ((¬ r34 = 0 → k33) ∧ (r34 = 0 → k15 1))))))))))))) 0 0 S4))) ∧ (x2 = 0 → wpX9_tell (-6) S3 (fun (r35 : Int32) (S36 : sn_S) => Q r35 S36))))))
theorem wkX9_row {w : sn_W} {C : sn_C} (hO : sn_Ok LoM w C RX9 cX9_row 6 (some .int) [] "row") (S : sn_S) (Q : Int32 → sn_S → Prop) : wpX9_row S Q → sn_G LoM w rmX9_row (sn_qI Q) sn_noE C 0 0 0 [(0, .ref (w.2.2.1 0))] [] S := by
  unfold wpX9_row
  generalize hQq : (sn_qI Q) = Qq
  refine sn_aload_n hO 0 rfl dX9_row_0 ?_
  refine sn_iconst hO kc_0 dX9_row_1 ?_
  refine sn_putI hO fmX9_150 atM_0 rfl rfl dX9_row_2 ?_
  refine sn_nmS (fun S1 => ?_)
  refine sn_aload_n hO 0 rfl dX9_row_5 ?_
  refine sn_getI hO fmX9_206 atM_0 dX9_row_6 ?_
  refine sn_nmI (fun x2 => ?_)
  refine sn_istore_n hO (lv' := [(1, .int x2), (0, .ref (w.2.2.1 0))]) (by decide) rfl dX9_row_9 ?_
  refine sn_aload_n hO 1 rfl dX9_row_10 ?_
  refine sn_iconst hO kc_0 dX9_row_11 ?_
  refine sn_putI hO fmX9_206 atM_0 rfl rfl dX9_row_12 ?_
  refine sn_nmS (fun S3 => ?_)
  refine sn_iload_n hO 0 rfl dX9_row_15 ?_
  refine sn_if_ne hO 26 (by decide) dX9_row_16 ?_ ?_
  · refine sn_aload_n hO 1 rfl dX9_row_26 ?_
    refine sn_iconst hO kc_0 dX9_row_27 ?_
    refine sn_putI hO fmX9_209 atM_0 rfl rfl dX9_row_28 ?_
    refine sn_nmS (fun S4 => ?_)
    refine sn_iconst hO kc_0 dX9_row_31 ?_
    refine sn_istore_n hO (lv' := [(2, .int 0), (1, .int x2), (0, .ref (w.2.2.1 0))]) (by decide) rfl dX9_row_32 ?_
    refine sn_iconst hO kc_0 dX9_row_33 ?_
    refine sn_istore_n hO (lv' := [(3, .int 0), (2, .int 0), (1, .int x2), (0, .ref (w.2.2.1 0))]) (by decide) rfl dX9_row_34 ?_
    refine sn_jn_walk (fun (k : Int32 → sn_S → Prop) => ∀ (v5 : Int32) (S6 : sn_S), k v5 S6 → sn_G LoM w rmX9_row Qq sn_noE C 0 0 181 [(0, .ref (w.2.2.1 0)), (2, .int v5)] [] S6) ?_ ?_
    · intro v5 S6
      refine sn_aload_n hO 0 rfl dX9_row_181 ?_
      refine sn_iload_n hO 1 rfl dX9_row_182 ?_
      refine sn_callV hO (c2 := 0) (s2 := 0) [.int v5] cvX9_164 (fun _ => sn_Rv_K atM_0) ctX9_tell ⟨Nat.le_of_ble_eq_true rfl, Nat.le_of_ble_eq_true rfl⟩ rfl rfl (Nat.le_of_ble_eq_true rfl) ⟨Nat.le_of_ble_eq_true rfl, Nat.le_of_ble_eq_true rfl, rfl, rfl⟩ dX9_row_183 (sn_bI (fun r8 S9 => ?_)) sn_x0
      subst hQq
      exact sn_iret hO rfl dX9_row_186
    · intro k7 hk7
      refine sn_sub [3, 2, 1, 0] rfl ?_
      refine sn_lp3_walk (Gd := fun (i10 : Int32) (i11 : Int32) (S12 : sn_S) => sn_G LoM w rmX9_row Qq sn_noE C 0 0 35 [(0, .ref (w.2.2.1 0)), (1, .int x2), (2, .int i10), (3, .int i11)] [] S12) ?_ _ _ _
      intro rc13 hrc13 i10 i11 S12
      refine sn_iload_n hO 3 rfl dX9_row_35 ?_
      refine sn_iload_n hO 1 rfl dX9_row_36 ?_
      refine sn_icmp_ge hO 181 (by decide) dX9_row_37 ?_ ?_
      · refine sn_sub [0, 2] rfl ?_
        exact hk7 _ _
      · refine sn_iload_n hO 3 rfl dX9_row_40 ?_
        refine sn_bipush hO kb_96 dX9_row_41 ?_
        refine sn_jn_walk (fun (k : Int32 → Prop) => ∀ (v14 : Int32), k v14 → sn_G LoM w rmX9_row Qq sn_noE C 0 0 71 [(0, .ref (w.2.2.1 0)), (1, .int x2), (2, .int i10), (3, .int i11)] [.int v14] S12) ?_ ?_
        · intro v14
          refine sn_istore hO (lv' := [(4, .int v14), (0, .ref (w.2.2.1 0)), (1, .int x2), (2, .int i10), (3, .int i11)]) (by decide) rfl dX9_row_71 ?_
          refine sn_iload_n hO 4 rfl dX9_row_73 ?_
          refine sn_bipush hO kb_96 dX9_row_74 ?_
          refine sn_jn_walk (fun (k : Int32 → Prop) => ∀ (v16 : Int32), k v16 → sn_G LoM w rmX9_row Qq sn_noE C 0 0 95 [(0, .ref (w.2.2.1 0)), (1, .int x2), (2, .int i10), (3, .int i11), (4, .int v14)] [.int v16] S12) ?_ ?_
          · intro v16
            refine sn_istore hO (lv' := [(5, .int v16), (0, .ref (w.2.2.1 0)), (1, .int x2), (2, .int i10), (3, .int i11), (4, .int v14)]) (by decide) rfl dX9_row_95 ?_
            refine sn_iload hO 5 rfl dX9_row_97 ?_
            refine sn_jn_walk (fun (k : sn_S → Prop) => ∀ (S18 : sn_S), k S18 → sn_G LoM w rmX9_row Qq sn_noE C 0 0 113 [(0, .ref (w.2.2.1 0)), (1, .int x2), (2, .int i10), (3, .int i11), (4, .int v14), (5, .int v16)] [] S18) ?_ ?_
            · intro S18
              refine sn_iload hO 5 rfl dX9_row_113 ?_
              refine sn_jn_walk (fun (k : sn_S → Prop) => ∀ (S20 : sn_S), k S20 → sn_G LoM w rmX9_row Qq sn_noE C 0 0 133 [(0, .ref (w.2.2.1 0)), (1, .int x2), (2, .int i10), (3, .int i11), (4, .int v14), (5, .int v16)] [] S20) ?_ ?_
              · intro S20
                refine sn_iload_n hO 2 rfl dX9_row_133 ?_
                refine sn_iload hO 4 rfl dX9_row_134 ?_
                refine sn_jn_walk (fun (k : Int32 → Prop) => ∀ (v22 : Int32), k v22 → sn_G LoM w rmX9_row Qq sn_noE C 0 0 149 [(0, .ref (w.2.2.1 0)), (1, .int x2), (3, .int i11), (4, .int v14), (5, .int v16)] [.int v22, .int i10] S20) ?_ ?_
                · intro v22
                  refine sn_iadd hO dX9_row_149 ?_
                  refine sn_nmI (fun x24 => ?_)
                  refine sn_istore_n hO (lv' := [(2, .int x24), (0, .ref (w.2.2.1 0)), (1, .int x2), (3, .int i11), (4, .int v14), (5, .int v16)]) (by decide) rfl dX9_row_150 ?_
                  refine sn_aload_n hO 1 rfl dX9_row_151 ?_
                  refine sn_dup hO rfl dX9_row_152 ?_
                  refine sn_getI hO fmX9_209 atM_0 dX9_row_153 ?_
                  refine sn_iload hO 4 rfl dX9_row_156 ?_
                  refine sn_jn_walk (fun (k : Int32 → Prop) => ∀ (v25 : Int32), k v25 → sn_G LoM w rmX9_row Qq sn_noE C 0 0 171 [(0, .ref (w.2.2.1 0)), (1, .int x2), (2, .int x24), (3, .int i11)] [.int v25, .int (S20.1 0 6), .ref (w.2.2.1 0)] S20) ?_ ?_
                  · intro v25
                    refine sn_iadd hO dX9_row_171 ?_
                    refine sn_putI hO fmX9_209 atM_0 rfl rfl dX9_row_172 ?_
                    refine sn_nmS (fun S27 => ?_)
                    refine sn_iinc hO (lv' := [(3, .int (i11 + 1)), (0, .ref (w.2.2.1 0)), (1, .int x2), (2, .int x24)]) 3 rfl ki_1 (by decide) rfl dX9_row_175 ?_
                    refine sn_goto hO 35 (by decide) dX9_row_178 ?_
                    refine sn_sub [1, 2, 3, 0] rfl ?_
                    exact hrc13 _ _ _
                  · intro k26 hk26
                    refine sn_jn_walk (fun (k : Prop) => k → sn_G LoM w rmX9_row Qq sn_noE C 0 0 166 [(0, .ref (w.2.2.1 0)), (1, .int x2), (2, .int x24), (3, .int i11)] [.int (S20.1 0 6), .ref (w.2.2.1 0)] S20) ?_ ?_
                    · refine sn_iconst hO kc_0 dX9_row_166 ?_
                      refine sn_goto hO 171 (by decide) dX9_row_167 ?_
                      exact hk26 _
                    · intro k28 hk28
                      refine sn_if_ne hO 166 (by decide) dX9_row_158 ?_ ?_
                      · refine sn_sub [1, 2, 0, 3] rfl ?_
                        exact hk28
                      · refine sn_iload hO 5 rfl dX9_row_161 ?_
                        refine sn_if_eq hO 170 (by decide) dX9_row_163 ?_ ?_
                        · refine sn_iconst hO kc_1 dX9_row_170 ?_
                          refine sn_sub [1, 2, 0, 3] rfl ?_
                          exact hk26 _
                        · refine sn_sub [1, 2, 0, 3] rfl ?_
                          exact hk28
                · intro k23 hk23
                  refine sn_jn_walk (fun (k : Prop) => k → sn_G LoM w rmX9_row Qq sn_noE C 0 0 144 [(0, .ref (w.2.2.1 0)), (1, .int x2), (3, .int i11), (4, .int v14), (5, .int v16)] [.int i10] S20) ?_ ?_
                  · refine sn_iconst hO kc_1 dX9_row_144 ?_
                    refine sn_goto hO 149 (by decide) dX9_row_145 ?_
                    exact hk23 _
                  · intro k29 hk29
                    refine sn_if_ne hO 144 (by decide) dX9_row_136 ?_ ?_
                    · refine sn_sub [0, 1, 3, 4, 5] rfl ?_
                      exact hk29
                    · refine sn_iload hO 5 rfl dX9_row_139 ?_
                      refine sn_if_eq hO 148 (by decide) dX9_row_141 ?_ ?_
                      · refine sn_iconst hO kc_0 dX9_row_148 ?_
                        refine sn_sub [0, 1, 3, 4, 5] rfl ?_
                        exact hk23 _
                      · refine sn_sub [0, 1, 3, 4, 5] rfl ?_
                        exact hk29
              · intro k21 hk21
                refine sn_if_eq hO 133 (by decide) dX9_row_115 ?_ ?_
                · exact hk21 _
                · refine sn_aload_n hO 0 rfl dX9_row_118 ?_
                  refine sn_getF hO fmX9_13 atM_0 dX9_row_119 ?_
                  refine sn_bipush hO kb_80 dX9_row_122 ?_
                  refine sn_iload_n hO 3 rfl dX9_row_124 ?_
                  refine sn_iadd hO dX9_row_125 ?_
                  refine sn_aload_n hO 0 rfl dX9_row_126 ?_
                  refine sn_getF hO fmX9_23 atM_0 dX9_row_127 ?_
                  refine sn_iload_n hO 3 rfl dX9_row_130 ?_
                  refine sn_iald hO atM_5 rfl dX9_row_131 ?_
                  refine sn_iast hO atM_2 rfl dX9_row_132 ?_
                  refine sn_nmS (fun S30 => ?_)
                  exact hk21 _
            · intro k19 hk19
              refine sn_if_eq hO 113 (by decide) dX9_row_99 ?_ ?_
              · refine sn_sub [1, 2, 3, 4, 5, 0] rfl ?_
                exact hk19 _
              · refine sn_aload_n hO 1 rfl dX9_row_102 ?_
                refine sn_getF hO fmX9_13 atM_0 dX9_row_103 ?_
                refine sn_sipush hO ks_176 dX9_row_106 ?_
                refine sn_iload_n hO 4 rfl dX9_row_109 ?_
                refine sn_iadd hO dX9_row_110 ?_
                refine sn_iconst hO kc_1 dX9_row_111 ?_
                refine sn_iast hO atM_2 rfl dX9_row_112 ?_
                refine sn_nmS (fun S31 => ?_)
                refine sn_sub [1, 2, 3, 4, 5, 0] rfl ?_
                exact hk19 _
          · intro k17 hk17
            refine sn_jn_walk (fun (k : Prop) => k → sn_G LoM w rmX9_row Qq sn_noE C 0 0 94 [(0, .ref (w.2.2.1 0)), (1, .int x2), (2, .int i10), (3, .int i11), (4, .int v14)] [] S12) ?_ ?_
            · refine sn_iconst hO kc_0 dX9_row_94 ?_
              exact hk17 _
            · intro k32 hk32
              refine sn_icmp_ge hO 94 (by decide) dX9_row_76 ?_ ?_
              · refine sn_sub [1, 2, 3, 4, 0] rfl ?_
                exact hk32
              · refine sn_aload_n hO 1 rfl dX9_row_79 ?_
                refine sn_getF hO fmX9_23 atM_0 dX9_row_80 ?_
                refine sn_iload_n hO 4 rfl dX9_row_83 ?_
                refine sn_iald hO atM_5 rfl dX9_row_84 ?_
                refine sn_bipush hO kb_10 dX9_row_85 ?_
                refine sn_icmp_ge hO 94 (by decide) dX9_row_87 ?_ ?_
                · refine sn_sub [1, 2, 3, 4, 0] rfl ?_
                  exact hk32
                · refine sn_iconst hO kc_1 dX9_row_90 ?_
                  refine sn_goto hO 95 (by decide) dX9_row_91 ?_
                  refine sn_sub [1, 2, 3, 4, 0] rfl ?_
                  exact hk17 _
        · intro k15 hk15
          refine sn_jn_walk (fun (k : Prop) => k → sn_G LoM w rmX9_row Qq sn_noE C 0 0 70 [(0, .ref (w.2.2.1 0)), (1, .int x2), (2, .int i10), (3, .int i11)] [] S12) ?_ ?_
          · refine sn_iconst hO kc_0 dX9_row_70 ?_
            exact hk15 _
          · intro k33 hk33
            refine sn_icmp_ge hO 70 (by decide) dX9_row_43 ?_ ?_
            · exact hk33
            · refine sn_aload_n hO 0 rfl dX9_row_46 ?_
              refine sn_getF hO fmX9_23 atM_0 dX9_row_47 ?_
              refine sn_iload_n hO 3 rfl dX9_row_50 ?_
              refine sn_iald hO atM_5 rfl dX9_row_51 ?_
              refine sn_sipush hO ks_200 dX9_row_52 ?_
              refine sn_icmp_ne hO 70 (by decide) dX9_row_55 ?_ ?_
              · exact hk33
              · refine sn_aload_n hO 0 rfl dX9_row_58 ?_
                refine sn_iload_n hO 3 rfl dX9_row_59 ?_
                refine sn_callV hO (c2 := 0) (s2 := 0) [.int i11] cvX9_182 (fun _ => sn_Rv_K atM_0) ctX9_isOfSnails ⟨Nat.le_of_ble_eq_true rfl, Nat.le_of_ble_eq_true rfl⟩ rfl rfl (Nat.le_of_ble_eq_true rfl) ⟨Nat.le_of_ble_eq_true rfl, Nat.le_of_ble_eq_true rfl, rfl, rfl⟩ dX9_row_60 (sn_bIp (fun r34 => ?_)) sn_x0
                refine sn_if_ne hO 70 (by decide) dX9_row_63 ?_ ?_
                · exact hk33
                · refine sn_iconst hO kc_1 dX9_row_66 ?_
                  refine sn_goto hO 71 (by decide) dX9_row_67 ?_
                  exact hk15 _
  · refine sn_aload_n hO 1 rfl dX9_row_19 ?_
    refine sn_bipush hO kb_m6 dX9_row_20 ?_
    refine sn_callV hO (c2 := 0) (s2 := 0) [.int (-6)] cvX9_164 (fun _ => sn_Rv_K atM_0) ctX9_tell ⟨Nat.le_of_ble_eq_true rfl, Nat.le_of_ble_eq_true rfl⟩ rfl rfl (Nat.le_of_ble_eq_true rfl) ⟨Nat.le_of_ble_eq_true rfl, Nat.le_of_ble_eq_true rfl, rfl, rfl⟩ dX9_row_22 (sn_bI (fun r35 S36 => ?_)) sn_x0
    subst hQq
    exact sn_iret hO rfl dX9_row_25
theorem ctX9_row {w : sn_W} {S : sn_S} {Q : Int32 → sn_S → Prop} (h : wpX9_row S Q) : sn_Ct LoM w yX9_row (ws_ yX9_row cX9_row 6 (some .int)) rmX9_row [.ref (w.2.2.1 0)] S (sn_qI Q) sn_noE := sn_Ct_of (LoM_X w) (by decide) (Nat.le_of_ble_eq_true rfl) RX9 rfl (fun C hO => wkX9_row hO S Q h)
def rmX9_spilt : Room := { frames := 0, cells := 0, slots := 0, locals := 0 }
/-- SnailPostModel.spilt()I -/
def wpX9_spilt (S : sn_S) (Q : Int32 → sn_S → Prop) : Prop :=
  sn_lt (sn_pI S 0 0 0) (fun S1 => Q (S1.1 0 6) S1)
theorem wkX9_spilt {w : sn_W} {C : sn_C} (hO : sn_Ok LoM w C RX9 cX9_spilt 1 (some .int) [] "spilt") (S : sn_S) (Q : Int32 → sn_S → Prop) : wpX9_spilt S Q → sn_G LoM w rmX9_spilt (sn_qI Q) sn_noE C 0 0 0 [(0, .ref (w.2.2.1 0))] [] S := by
  unfold wpX9_spilt
  generalize hQq : (sn_qI Q) = Qq
  refine sn_aload_n hO 0 rfl dX9_spilt_0 ?_
  refine sn_iconst hO kc_0 dX9_spilt_1 ?_
  refine sn_putI hO fmX9_150 atM_0 rfl rfl dX9_spilt_2 ?_
  refine sn_nmS (fun S1 => ?_)
  refine sn_aload_n hO 0 rfl dX9_spilt_5 ?_
  refine sn_getI hO fmX9_209 atM_0 dX9_spilt_6 ?_
  subst hQq
  exact sn_iret hO rfl dX9_spilt_9
theorem ctX9_spilt {w : sn_W} {S : sn_S} {Q : Int32 → sn_S → Prop} (h : wpX9_spilt S Q) : sn_Ct LoM w yX9_spilt (ws_ yX9_spilt cX9_spilt 1 (some .int)) rmX9_spilt [.ref (w.2.2.1 0)] S (sn_qI Q) sn_noE := sn_Ct_of (LoM_X w) (by decide) (Nat.le_of_ble_eq_true rfl) RX9 rfl (fun C hO => wkX9_spilt hO S Q h)
def rmX9_four : Room := { frames := 0, cells := 0, slots := 0, locals := 0 }
/-- SnailPostModel.four(I)V -/
def wpX9_four (p1 : Int32) (S : sn_S) (Q : sn_S → Prop) : Prop :=
  sn_lp2 (fun (rc3 : Int32 → sn_S → Prop) (i1 : Int32) (S2 : sn_S) => ((i1 < 0 → Q S2) ∧ (¬ i1 < 0 → (vp_in (S2.1 0 8) 400 ∧ sn_lt (sn_pI S2 5 ((S2.1 0 8)).toNatClampNeg ((p1 >>> (i1 &&& 31)) &&& 255)) (fun S4 => sn_lt (sn_pI S4 0 8 ((S4.1 0 8) + 1)) (fun S5 => rc3 (i1 + (-8)) S5)))))) 24 S
theorem wkX9_four {w : sn_W} {C : sn_C} (hO : sn_Ok LoM w C RX9 cX9_four 3 none [] "four") (p1 : Int32) (S : sn_S) (Q : sn_S → Prop) : wpX9_four p1 S Q → sn_G LoM w rmX9_four (sn_qV Q) sn_noE C 0 0 0 [(0, .ref (w.2.2.1 0)), (1, .int p1)] [] S := by
  unfold wpX9_four
  generalize hQq : (sn_qV Q) = Qq
  refine sn_bipush hO kb_24 dX9_four_0 ?_
  refine sn_istore_n hO (lv' := [(2, .int 24), (0, .ref (w.2.2.1 0)), (1, .int p1)]) (by decide) rfl dX9_four_2 ?_
  refine sn_sub [1, 2, 0] rfl ?_
  refine sn_lp2_walk (Gd := fun (i1 : Int32) (S2 : sn_S) => sn_G LoM w rmX9_four Qq sn_noE C 0 0 3 [(0, .ref (w.2.2.1 0)), (1, .int p1), (2, .int i1)] [] S2) ?_ _ _
  intro rc3 hrc3 i1 S2
  refine sn_iload_n hO 2 rfl dX9_four_3 ?_
  refine sn_if_lt hO 39 (by decide) dX9_four_4 ?_ ?_
  · subst hQq
    exact sn_vret hO rfl dX9_four_39
  · refine sn_aload_n hO 0 rfl dX9_four_7 ?_
    refine sn_getF hO fmX9_23 atM_0 dX9_four_8 ?_
    refine sn_aload_n hO 0 rfl dX9_four_11 ?_
    refine sn_getI hO fmX9_206 atM_0 dX9_four_12 ?_
    refine sn_iload_n hO 1 rfl dX9_four_15 ?_
    refine sn_iload_n hO 2 rfl dX9_four_16 ?_
    refine sn_ishr hO dX9_four_17 ?_
    refine sn_sipush hO ks_255 dX9_four_18 ?_
    refine sn_iand hO dX9_four_21 ?_
    refine sn_iast hO atM_5 rfl dX9_four_22 ?_
    refine sn_nmS (fun S4 => ?_)
    refine sn_aload_n hO 0 rfl dX9_four_23 ?_
    refine sn_dup hO rfl dX9_four_24 ?_
    refine sn_getI hO fmX9_206 atM_0 dX9_four_25 ?_
    refine sn_iconst hO kc_1 dX9_four_28 ?_
    refine sn_iadd hO dX9_four_29 ?_
    refine sn_putI hO fmX9_206 atM_0 rfl rfl dX9_four_30 ?_
    refine sn_nmS (fun S5 => ?_)
    refine sn_iinc hO (lv' := [(2, .int (i1 + (-8))), (0, .ref (w.2.2.1 0)), (1, .int p1)]) 2 rfl ki_m8 (by decide) rfl dX9_four_33 ?_
    refine sn_goto hO 3 (by decide) dX9_four_36 ?_
    refine sn_sub [1, 2, 0] rfl ?_
    exact hrc3 _ _
theorem ctX9_four {w : sn_W} {p1 : Int32} {S : sn_S} {Q : sn_S → Prop} (h : wpX9_four p1 S Q) : sn_Ct LoM w yX9_four (ws_ yX9_four cX9_four 3 none) rmX9_four [.ref (w.2.2.1 0), .int p1] S (sn_qV Q) sn_noE := sn_Ct_of (LoM_X w) (by decide) (Nat.le_of_ble_eq_true rfl) RX9 rfl (fun C hO => wkX9_four hO p1 S Q h)
def rmX9_feed : Room := { frames := 1, cells := 0, slots := 0, locals := 22 }
/-- SnailPostModel.feed(IIIII)I -/
def wpX9_feed (p1 : Int32) (p2 : Int32) (p3 : Int32) (p4 : Int32) (p5 : Int32) (S : sn_S) (Q : Int32 → sn_S → Prop) : Prop :=
  sn_lt (sn_pI S 0 0 0) (fun S1 => ((((S1.1 0 8) + 20) ≤ 400 → wpX9_four p1 S1 (fun (S2 : sn_S) => wpX9_four p2 S2 (fun (S3 : sn_S) => wpX9_four p3 S3 (fun (S4 : sn_S) => wpX9_four p4 S4 (fun (S5 : sn_S) => wpX9_four p5 S5 (fun (S6 : sn_S) => Q (S6.1 0 8) S6)))))) ∧ (¬ ((S1.1 0 8) + 20) ≤ 400 → Q (-1) S1)))
theorem wkX9_feed {w : sn_W} {C : sn_C} (hO : sn_Ok LoM w C RX9 cX9_feed 6 (some .int) [] "feed") (p1 : Int32) (p2 : Int32) (p3 : Int32) (p4 : Int32) (p5 : Int32) (S : sn_S) (Q : Int32 → sn_S → Prop) : wpX9_feed p1 p2 p3 p4 p5 S Q → sn_G LoM w rmX9_feed (sn_qI Q) sn_noE C 0 0 0 [(0, .ref (w.2.2.1 0)), (1, .int p1), (2, .int p2), (3, .int p3), (4, .int p4), (5, .int p5)] [] S := by
  unfold wpX9_feed
  generalize hQq : (sn_qI Q) = Qq
  refine sn_aload_n hO 0 rfl dX9_feed_0 ?_
  refine sn_iconst hO kc_0 dX9_feed_1 ?_
  refine sn_putI hO fmX9_150 atM_0 rfl rfl dX9_feed_2 ?_
  refine sn_nmS (fun S1 => ?_)
  refine sn_aload_n hO 0 rfl dX9_feed_5 ?_
  refine sn_getI hO fmX9_206 atM_0 dX9_feed_6 ?_
  refine sn_bipush hO kb_20 dX9_feed_9 ?_
  refine sn_iadd hO dX9_feed_11 ?_
  refine sn_sipush hO ks_400 dX9_feed_12 ?_
  refine sn_icmp_le hO 20 (by decide) dX9_feed_15 ?_ ?_
  · refine sn_aload_n hO 0 rfl dX9_feed_20 ?_
    refine sn_iload_n hO 1 rfl dX9_feed_21 ?_
    refine sn_callV hO (c2 := 0) (s2 := 0) [.int p1] cvX9_212 (fun _ => sn_Rv_K atM_0) ctX9_four ⟨Nat.le_of_ble_eq_true rfl, Nat.le_of_ble_eq_true rfl⟩ rfl rfl (Nat.le_of_ble_eq_true rfl) ⟨Nat.le_of_ble_eq_true rfl, Nat.le_of_ble_eq_true rfl, rfl, rfl⟩ dX9_feed_22 (sn_bV (fun S2 => ?_)) sn_x0
    refine sn_aload_n hO 0 rfl dX9_feed_25 ?_
    refine sn_iload_n hO 2 rfl dX9_feed_26 ?_
    refine sn_callV hO (c2 := 0) (s2 := 0) [.int p2] cvX9_212 (fun _ => sn_Rv_K atM_0) ctX9_four ⟨Nat.le_of_ble_eq_true rfl, Nat.le_of_ble_eq_true rfl⟩ rfl rfl (Nat.le_of_ble_eq_true rfl) ⟨Nat.le_of_ble_eq_true rfl, Nat.le_of_ble_eq_true rfl, rfl, rfl⟩ dX9_feed_27 (sn_bV (fun S3 => ?_)) sn_x0
    refine sn_aload_n hO 0 rfl dX9_feed_30 ?_
    refine sn_iload_n hO 3 rfl dX9_feed_31 ?_
    refine sn_callV hO (c2 := 0) (s2 := 0) [.int p3] cvX9_212 (fun _ => sn_Rv_K atM_0) ctX9_four ⟨Nat.le_of_ble_eq_true rfl, Nat.le_of_ble_eq_true rfl⟩ rfl rfl (Nat.le_of_ble_eq_true rfl) ⟨Nat.le_of_ble_eq_true rfl, Nat.le_of_ble_eq_true rfl, rfl, rfl⟩ dX9_feed_32 (sn_bV (fun S4 => ?_)) sn_x0
    refine sn_aload_n hO 0 rfl dX9_feed_35 ?_
    refine sn_iload hO 4 rfl dX9_feed_36 ?_
    refine sn_callV hO (c2 := 0) (s2 := 0) [.int p4] cvX9_212 (fun _ => sn_Rv_K atM_0) ctX9_four ⟨Nat.le_of_ble_eq_true rfl, Nat.le_of_ble_eq_true rfl⟩ rfl rfl (Nat.le_of_ble_eq_true rfl) ⟨Nat.le_of_ble_eq_true rfl, Nat.le_of_ble_eq_true rfl, rfl, rfl⟩ dX9_feed_38 (sn_bV (fun S5 => ?_)) sn_x0
    refine sn_aload_n hO 0 rfl dX9_feed_41 ?_
    refine sn_iload hO 5 rfl dX9_feed_42 ?_
    refine sn_callV hO (c2 := 0) (s2 := 0) [.int p5] cvX9_212 (fun _ => sn_Rv_K atM_0) ctX9_four ⟨Nat.le_of_ble_eq_true rfl, Nat.le_of_ble_eq_true rfl⟩ rfl rfl (Nat.le_of_ble_eq_true rfl) ⟨Nat.le_of_ble_eq_true rfl, Nat.le_of_ble_eq_true rfl, rfl, rfl⟩ dX9_feed_44 (sn_bV (fun S6 => ?_)) sn_x0
    refine sn_aload_n hO 0 rfl dX9_feed_47 ?_
    refine sn_getI hO fmX9_206 atM_0 dX9_feed_48 ?_
    subst hQq
    exact sn_iret hO rfl dX9_feed_51
  · refine sn_iconst hO kc_m1 dX9_feed_18 ?_
    subst hQq
    exact sn_iret hO rfl dX9_feed_19
theorem ctX9_feed {w : sn_W} {p1 : Int32} {p2 : Int32} {p3 : Int32} {p4 : Int32} {p5 : Int32} {S : sn_S} {Q : Int32 → sn_S → Prop} (h : wpX9_feed p1 p2 p3 p4 p5 S Q) : sn_Ct LoM w yX9_feed (ws_ yX9_feed cX9_feed 6 (some .int)) rmX9_feed [.ref (w.2.2.1 0), .int p1, .int p2, .int p3, .int p4, .int p5] S (sn_qI Q) sn_noE := sn_Ct_of (LoM_X w) (by decide) (Nat.le_of_ble_eq_true rfl) RX9 rfl (fun C hO => wkX9_feed hO p1 p2 p3 p4 p5 S Q h)
def rmX9_end : Room := { frames := 0, cells := 0, slots := 0, locals := 0 }
/-- SnailPostModel.end(I)I -/
def wpX9_end (p1 : Int32) (S : sn_S) (Q : Int32 → sn_S → Prop) : Prop :=
  sn_lt (sn_pI S 0 0 0) (fun S1 => ((p1 < 0 → Q (-1) S1) ∧ (¬ p1 < 0 → ((p1 ≤ (S1.1 0 8) → sn_lt (sn_pI S1 0 8 p1) (fun S2 => Q p1 S2)) ∧ (¬ p1 ≤ (S1.1 0 8) → Q (-1) S1)))))
theorem wkX9_end {w : sn_W} {C : sn_C} (hO : sn_Ok LoM w C RX9 cX9_end 2 (some .int) [] "end") (p1 : Int32) (S : sn_S) (Q : Int32 → sn_S → Prop) : wpX9_end p1 S Q → sn_G LoM w rmX9_end (sn_qI Q) sn_noE C 0 0 0 [(0, .ref (w.2.2.1 0)), (1, .int p1)] [] S := by
  unfold wpX9_end
  generalize hQq : (sn_qI Q) = Qq
  refine sn_aload_n hO 0 rfl dX9_end_0 ?_
  refine sn_iconst hO kc_0 dX9_end_1 ?_
  refine sn_putI hO fmX9_150 atM_0 rfl rfl dX9_end_2 ?_
  refine sn_nmS (fun S1 => ?_)
  refine sn_iload_n hO 1 rfl dX9_end_5 ?_
  refine sn_if_lt hO 17 (by decide) dX9_end_6 ?_ ?_
  · refine sn_iconst hO kc_m1 dX9_end_17 ?_
    subst hQq
    exact sn_iret hO rfl dX9_end_18
  · refine sn_iload_n hO 1 rfl dX9_end_9 ?_
    refine sn_aload_n hO 0 rfl dX9_end_10 ?_
    refine sn_getI hO fmX9_206 atM_0 dX9_end_11 ?_
    refine sn_icmp_le hO 19 (by decide) dX9_end_14 ?_ ?_
    · refine sn_aload_n hO 0 rfl dX9_end_19 ?_
      refine sn_iload_n hO 1 rfl dX9_end_20 ?_
      refine sn_putI hO fmX9_206 atM_0 rfl rfl dX9_end_21 ?_
      refine sn_nmS (fun S2 => ?_)
      refine sn_iload_n hO 1 rfl dX9_end_24 ?_
      subst hQq
      exact sn_iret hO rfl dX9_end_25
    · refine sn_iconst hO kc_m1 dX9_end_17 ?_
      subst hQq
      exact sn_iret hO rfl dX9_end_18
theorem ctX9_end {w : sn_W} {p1 : Int32} {S : sn_S} {Q : Int32 → sn_S → Prop} (h : wpX9_end p1 S Q) : sn_Ct LoM w yX9_end (ws_ yX9_end cX9_end 2 (some .int)) rmX9_end [.ref (w.2.2.1 0), .int p1] S (sn_qI Q) sn_noE := sn_Ct_of (LoM_X w) (by decide) (Nat.le_of_ble_eq_true rfl) RX9 rfl (fun C hO => wkX9_end hO p1 S Q h)
def rmX9_fault : Room := { frames := 0, cells := 0, slots := 0, locals := 0 }
/-- SnailPostModel.fault()I -/
def wpX9_fault (S : sn_S) (Q : Int32 → sn_S → Prop) : Prop :=
  sn_lt (sn_pI S 0 0 0) (fun S1 => Q (S1.1 0 13) S1)
theorem wkX9_fault {w : sn_W} {C : sn_C} (hO : sn_Ok LoM w C RX9 cX9_fault 1 (some .int) [] "fault") (S : sn_S) (Q : Int32 → sn_S → Prop) : wpX9_fault S Q → sn_G LoM w rmX9_fault (sn_qI Q) sn_noE C 0 0 0 [(0, .ref (w.2.2.1 0))] [] S := by
  unfold wpX9_fault
  generalize hQq : (sn_qI Q) = Qq
  refine sn_aload_n hO 0 rfl dX9_fault_0 ?_
  refine sn_iconst hO kc_0 dX9_fault_1 ?_
  refine sn_putI hO fmX9_150 atM_0 rfl rfl dX9_fault_2 ?_
  refine sn_nmS (fun S1 => ?_)
  refine sn_aload_n hO 0 rfl dX9_fault_5 ?_
  refine sn_getI hO fmX9_26 atM_0 dX9_fault_6 ?_
  subst hQq
  exact sn_iret hO rfl dX9_fault_9
theorem ctX9_fault {w : sn_W} {S : sn_S} {Q : Int32 → sn_S → Prop} (h : wpX9_fault S Q) : sn_Ct LoM w yX9_fault (ws_ yX9_fault cX9_fault 1 (some .int)) rmX9_fault [.ref (w.2.2.1 0)] S (sn_qI Q) sn_noE := sn_Ct_of (LoM_X w) (by decide) (Nat.le_of_ble_eq_true rfl) RX9 rfl (fun C hO => wkX9_fault hO S Q h)
def rmX9_isSmall : Room := { frames := 0, cells := 0, slots := 0, locals := 0 }
/-- SnailPostModel.isSmall(I)Z -/
def wpX9_isSmall (p1 : Int32) (Q : Int32 → Prop) : Prop :=
  ((p1 < 97 → Q 0) ∧ (¬ p1 < 97 → ((122 < p1 → Q 0) ∧ (¬ 122 < p1 → Q 1))))
theorem wkX9_isSmall {w : sn_W} {C : sn_C} (hO : sn_Ok LoM w C RX9 cX9_isSmall 1 (some .boolean) [] "isSmall") (p1 : Int32) (S : sn_S) (Q : Int32 → Prop) : wpX9_isSmall p1 Q → sn_G LoM w rmX9_isSmall (sn_qI (fun r S1 => S1 = S ∧ Q r)) sn_noE C 0 0 0 [(0, .int p1)] [] S := by
  unfold wpX9_isSmall
  generalize hQq : (sn_qI (fun r S1 => S1 = S ∧ Q r)) = Qq
  refine sn_iload_n hO 0 rfl dX9_isSmall_0 ?_
  refine sn_bipush hO kb_97 dX9_isSmall_1 ?_
  refine sn_icmp_lt hO 16 (by decide) dX9_isSmall_3 ?_ ?_
  · refine sn_iconst hO kc_0 dX9_isSmall_16 ?_
    subst hQq
    exact fun h => sn_zret hO (ty := .boolean) rfl rfl dX9_isSmall_17 ⟨rfl, h⟩
  · refine sn_iload_n hO 0 rfl dX9_isSmall_6 ?_
    refine sn_bipush hO kb_122 dX9_isSmall_7 ?_
    refine sn_icmp_gt hO 16 (by decide) dX9_isSmall_9 ?_ ?_
    · refine sn_iconst hO kc_0 dX9_isSmall_16 ?_
      subst hQq
      exact fun h => sn_zret hO (ty := .boolean) rfl rfl dX9_isSmall_17 ⟨rfl, h⟩
    · refine sn_iconst hO kc_1 dX9_isSmall_12 ?_
      refine sn_goto hO 17 (by decide) dX9_isSmall_13 ?_
      subst hQq
      exact fun h => sn_zret hO (ty := .boolean) rfl rfl dX9_isSmall_17 ⟨rfl, h⟩
theorem ctX9_isSmall {w : sn_W} {p1 : Int32} {S : sn_S} {Q : Int32 → Prop} (h : wpX9_isSmall p1 Q) : sn_Ct LoM w yX9_isSmall (ws_ yX9_isSmall cX9_isSmall 1 (some .boolean)) rmX9_isSmall [.int p1] S (sn_qI (fun r S1 => S1 = S ∧ Q r)) sn_noE := sn_Ct_of (LoM_X w) (by decide) (Nat.le_of_ble_eq_true rfl) RX9 rfl (fun C hO => wkX9_isSmall hO p1 S Q h)
def rmX9_isDigit : Room := { frames := 0, cells := 0, slots := 0, locals := 0 }
/-- SnailPostModel.isDigit(I)Z -/
def wpX9_isDigit (p1 : Int32) (Q : Int32 → Prop) : Prop :=
  ((p1 < 48 → Q 0) ∧ (¬ p1 < 48 → ((57 < p1 → Q 0) ∧ (¬ 57 < p1 → Q 1))))
theorem wkX9_isDigit {w : sn_W} {C : sn_C} (hO : sn_Ok LoM w C RX9 cX9_isDigit 1 (some .boolean) [] "isDigit") (p1 : Int32) (S : sn_S) (Q : Int32 → Prop) : wpX9_isDigit p1 Q → sn_G LoM w rmX9_isDigit (sn_qI (fun r S1 => S1 = S ∧ Q r)) sn_noE C 0 0 0 [(0, .int p1)] [] S := by
  unfold wpX9_isDigit
  generalize hQq : (sn_qI (fun r S1 => S1 = S ∧ Q r)) = Qq
  refine sn_iload_n hO 0 rfl dX9_isDigit_0 ?_
  refine sn_bipush hO kb_48 dX9_isDigit_1 ?_
  refine sn_icmp_lt hO 16 (by decide) dX9_isDigit_3 ?_ ?_
  · refine sn_iconst hO kc_0 dX9_isDigit_16 ?_
    subst hQq
    exact fun h => sn_zret hO (ty := .boolean) rfl rfl dX9_isDigit_17 ⟨rfl, h⟩
  · refine sn_iload_n hO 0 rfl dX9_isDigit_6 ?_
    refine sn_bipush hO kb_57 dX9_isDigit_7 ?_
    refine sn_icmp_gt hO 16 (by decide) dX9_isDigit_9 ?_ ?_
    · refine sn_iconst hO kc_0 dX9_isDigit_16 ?_
      subst hQq
      exact fun h => sn_zret hO (ty := .boolean) rfl rfl dX9_isDigit_17 ⟨rfl, h⟩
    · refine sn_iconst hO kc_1 dX9_isDigit_12 ?_
      refine sn_goto hO 17 (by decide) dX9_isDigit_13 ?_
      subst hQq
      exact fun h => sn_zret hO (ty := .boolean) rfl rfl dX9_isDigit_17 ⟨rfl, h⟩
theorem ctX9_isDigit {w : sn_W} {p1 : Int32} {S : sn_S} {Q : Int32 → Prop} (h : wpX9_isDigit p1 Q) : sn_Ct LoM w yX9_isDigit (ws_ yX9_isDigit cX9_isDigit 1 (some .boolean)) rmX9_isDigit [.int p1] S (sn_qI (fun r S1 => S1 = S ∧ Q r)) sn_noE := sn_Ct_of (LoM_X w) (by decide) (Nat.le_of_ble_eq_true rfl) RX9 rfl (fun C hO => wkX9_isDigit hO p1 S Q h)
def rmX9_next : Room := { frames := 1, cells := 0, slots := 0, locals := 20 }
/-- SnailPostModel.next()V -/
def wpX9_next (S : sn_S) (Q : sn_S → Prop) : Prop :=
  sn_lt (sn_pI S 0 9 (S.1 0 10)) (fun S1 => sn_jn (fun (S2 : sn_S) => sn_lt (sn_pI S2 0 10 (S2.1 0 9)) (fun S4 => sn_lt (sn_pJ S4 0 12 0) (fun S5 => sn_jn (fun (v6 : Int32) => sn_lt (sn_pI S5 0 11 v6) (fun S8 => sn_jn (fun (S9 : sn_S) => sn_jn (fun (S11 : sn_S) => sn_lp1 (fun (rc14 : sn_S → Prop) (S13 : sn_S) => ((¬ (S13.1 0 11) = 2 → Q S13) ∧ ((S13.1 0 11) = 2 → (((S13.1 0 8) ≤ (S13.1 0 10) → Q S13) ∧ (¬ (S13.1 0 8) ≤ (S13.1 0 10) → (vp_in (S13.1 0 10) 400 ∧ wpX9_isDigit (S13.1 5 ((S13.1 0 10)).toNatClampNeg) (fun (r15 : Int32) => ((r15 = 0 → Q S13) ∧ (¬ r15 = 0 → sn_jn (fun (v16 : Int64) => sn_lt (sn_pJ S13 0 12 v16) (fun S18 => sn_lt (sn_pI S18 0 10 ((S18.1 0 10) + 1)) (fun S19 => rc14 S19))) (fun (k17 : Int64 → Prop) => (((lg_cmp (S13.2.1 0 12) 1000000) ≤ 0 → (vp_in (S13.1 0 10) 400 ∧ k17 ((((S13.2.1 0 12) * 10) + (Int32.toInt64 (S13.1 5 ((S13.1 0 10)).toNatClampNeg))) - 48))) ∧ (¬ (lg_cmp (S13.2.1 0 12) 1000000) ≤ 0 → k17 (S13.2.1 0 12))))))))))))) S11) (fun (k12 : sn_S → Prop) => sn_lp1 (fun (rc21 : sn_S → Prop) (S20 : sn_S) => ((¬ (S20.1 0 11) = 1 → k12 S20) ∧ ((S20.1 0 11) = 1 → (((S20.1 0 8) ≤ (S20.1 0 10) → k12 S20) ∧ (¬ (S20.1 0 8) ≤ (S20.1 0 10) → (vp_in (S20.1 0 10) 400 ∧ wpX9_isSmall (S20.1 5 ((S20.1 0 10)).toNatClampNeg) (fun (r22 : Int32) => ((r22 = 0 → k12 S20) ∧ (¬ r22 = 0 → sn_jn (fun (v23 : Int64) => sn_lt (sn_pJ S20 0 12 v23) (fun S25 => sn_lt (sn_pI S25 0 10 ((S25.1 0 10) + 1)) (fun S26 => rc21 S26))) (fun (k24 : Int64 → Prop) => ((10 ≤ ((S20.1 0 10) - (S20.1 0 9)) → k24 (-1)) ∧ (¬ 10 ≤ ((S20.1 0 10) - (S20.1 0 9)) → (vp_in (S20.1 0 10) 400 ∧ k24 ((((S20.2.1 0 12) * 32) + (Int32.toInt64 (S20.1 5 ((S20.1 0 10)).toNatClampNeg))) - 96)))))))))))))) S9)) (fun (k10 : sn_S → Prop) => ((¬ (S8.1 0 11) = 3 → k10 S8) ∧ ((S8.1 0 11) = 3 → (vp_in (S8.1 0 9) 400 ∧ sn_lt (sn_pJ S8 0 12 (Int32.toInt64 (S8.1 5 ((S8.1 0 9)).toNatClampNeg))) (fun S27 => sn_lt (sn_pI S27 0 10 ((S27.1 0 10) + 1)) (fun S28 => k10 S28)))))))) (fun (k7 : Int32 → Prop) => ((¬ (S5.1 0 9) = (S5.1 0 8) → (vp_in (S5.1 0 9) 400 ∧ wpX9_isSmall (S5.1 5 ((S5.1 0 9)).toNatClampNeg) (fun (r29 : Int32) => ((r29 = 0 → (vp_in (S5.1 0 9) 400 ∧ wpX9_isDigit (S5.1 5 ((S5.1 0 9)).toNatClampNeg) (fun (r30 : Int32) => ((r30 = 0 → k7 3) ∧ (¬ r30 = 0 → k7 2))))) ∧ (¬ r29 = 0 → k7 1))))) ∧ ((S5.1 0 9) = (S5.1 0 8) → k7 0)))))) (fun (k3 : sn_S → Prop) => sn_lp1 (fun (rc32 : sn_S → Prop) (S31 : sn_S) => (((S31.1 0 8) ≤ (S31.1 0 9) → k3 S31) ∧ (¬ (S31.1 0 8) ≤ (S31.1 0 9) → (vp_in (S31.1 0 9) 400 ∧ ((¬ (S31.1 5 ((S31.1 0 9)).toNatClampNeg) = 32 → k3 S31) ∧ ((S31.1 5 ((S31.1 0 9)).toNatClampNeg) = 32 → sn_lt (sn_pI S31 0 9 ((S31.1 0 9) + 1)) (fun S33 => rc32 S33))))))) S1))
theorem wkX9_next {w : sn_W} {C : sn_C} (hO : sn_Ok LoM w C RX9 cX9_next 1 none [] "next") (S : sn_S) (Q : sn_S → Prop) : wpX9_next S Q → sn_G LoM w rmX9_next (sn_qV Q) sn_noE C 0 0 0 [(0, .ref (w.2.2.1 0))] [] S := by
  unfold wpX9_next
  generalize hQq : (sn_qV Q) = Qq
  refine sn_aload_n hO 0 rfl dX9_next_0 ?_
  refine sn_aload_n hO 0 rfl dX9_next_1 ?_
  refine sn_getI hO fmX9_216 atM_0 dX9_next_2 ?_
  refine sn_putI hO fmX9_226 atM_0 rfl rfl dX9_next_5 ?_
  refine sn_nmS (fun S1 => ?_)
  refine sn_jn_walk (fun (k : sn_S → Prop) => ∀ (S2 : sn_S), k S2 → sn_G LoM w rmX9_next Qq sn_noE C 0 0 46 [(0, .ref (w.2.2.1 0))] [] S2) ?_ ?_
  · intro S2
    refine sn_aload_n hO 0 rfl dX9_next_46 ?_
    refine sn_aload_n hO 0 rfl dX9_next_47 ?_
    refine sn_getI hO fmX9_226 atM_0 dX9_next_48 ?_
    refine sn_putI hO fmX9_216 atM_0 rfl rfl dX9_next_51 ?_
    refine sn_nmS (fun S4 => ?_)
    refine sn_aload_n hO 0 rfl dX9_next_54 ?_
    refine sn_lconst hO (v := 0) rfl dX9_next_55 ?_
    refine sn_putJ hO fmX9_229 atM_0 rfl rfl dX9_next_56 ?_
    refine sn_nmS (fun S5 => ?_)
    refine sn_aload_n hO 0 rfl dX9_next_59 ?_
    refine sn_aload_n hO 0 rfl dX9_next_60 ?_
    refine sn_getI hO fmX9_226 atM_0 dX9_next_61 ?_
    refine sn_aload_n hO 0 rfl dX9_next_64 ?_
    refine sn_getI hO fmX9_206 atM_0 dX9_next_65 ?_
    refine sn_jn_walk (fun (k : Int32 → Prop) => ∀ (v6 : Int32), k v6 → sn_G LoM w rmX9_next Qq sn_noE C 0 0 114 [(0, .ref (w.2.2.1 0))] [.int v6, .ref (w.2.2.1 0)] S5) ?_ ?_
    · intro v6
      refine sn_putI hO fmX9_239 atM_0 rfl rfl dX9_next_114 ?_
      refine sn_nmS (fun S8 => ?_)
      refine sn_aload_n hO 0 rfl dX9_next_117 ?_
      refine sn_getI hO fmX9_239 atM_0 dX9_next_118 ?_
      refine sn_iconst hO kc_3 dX9_next_121 ?_
      refine sn_jn_walk (fun (k : sn_S → Prop) => ∀ (S9 : sn_S), k S9 → sn_G LoM w rmX9_next Qq sn_noE C 0 0 149 [(0, .ref (w.2.2.1 0))] [] S9) ?_ ?_
      · intro S9
        refine sn_jn_walk (fun (k : sn_S → Prop) => ∀ (S11 : sn_S), k S11 → sn_G LoM w rmX9_next Qq sn_noE C 0 0 243 [(0, .ref (w.2.2.1 0))] [] S11) ?_ ?_
        · intro S11
          refine sn_lp1_walk (Gd := fun (S13 : sn_S) => sn_G LoM w rmX9_next Qq sn_noE C 0 0 243 [(0, .ref (w.2.2.1 0))] [] S13) ?_ _
          intro rc14 hrc14 S13
          refine sn_aload_n hO 0 rfl dX9_next_243 ?_
          refine sn_getI hO fmX9_239 atM_0 dX9_next_244 ?_
          refine sn_iconst hO kc_2 dX9_next_247 ?_
          refine sn_icmp_ne hO 335 (by decide) dX9_next_248 ?_ ?_
          · subst hQq
            exact sn_vret hO rfl dX9_next_335
          · refine sn_aload_n hO 0 rfl dX9_next_251 ?_
            refine sn_getI hO fmX9_216 atM_0 dX9_next_252 ?_
            refine sn_aload_n hO 0 rfl dX9_next_255 ?_
            refine sn_getI hO fmX9_206 atM_0 dX9_next_256 ?_
            refine sn_icmp_ge hO 335 (by decide) dX9_next_259 ?_ ?_
            · subst hQq
              exact sn_vret hO rfl dX9_next_335
            · refine sn_aload_n hO 0 rfl dX9_next_262 ?_
              refine sn_getF hO fmX9_23 atM_0 dX9_next_263 ?_
              refine sn_aload_n hO 0 rfl dX9_next_266 ?_
              refine sn_getI hO fmX9_216 atM_0 dX9_next_267 ?_
              refine sn_iald hO atM_5 rfl dX9_next_270 ?_
              refine sn_callS hO (c2 := 0) (s2 := 0) [.int (S13.1 5 ((S13.1 0 10)).toNatClampNeg)] csX9_236 ctX9_isDigit ⟨Nat.le_of_ble_eq_true rfl, Nat.le_of_ble_eq_true rfl⟩ rfl rfl (Nat.le_of_ble_eq_true rfl) ⟨Nat.le_of_ble_eq_true rfl, Nat.le_of_ble_eq_true rfl, rfl, rfl⟩ dX9_next_271 (sn_bIp (fun r15 => ?_)) sn_x0
              refine sn_if_eq hO 335 (by decide) dX9_next_274 ?_ ?_
              · subst hQq
                exact sn_vret hO rfl dX9_next_335
              · refine sn_aload_n hO 0 rfl dX9_next_277 ?_
                refine sn_aload_n hO 0 rfl dX9_next_278 ?_
                refine sn_getJ hO fmX9_229 atM_0 dX9_next_279 ?_
                refine sn_ldc2 hO q1765 dX9_next_282 ?_
                refine sn_lcmp hO dX9_next_285 ?_
                refine sn_jn_walk (fun (k : Int64 → Prop) => ∀ (v16 : Int64), k v16 → sn_G LoM w rmX9_next Qq sn_noE C 0 0 319 [(0, .ref (w.2.2.1 0))] [.long v16, .ref (w.2.2.1 0)] S13) ?_ ?_
                · intro v16
                  refine sn_putJ hO fmX9_229 atM_0 rfl rfl dX9_next_319 ?_
                  refine sn_nmS (fun S18 => ?_)
                  refine sn_aload_n hO 0 rfl dX9_next_322 ?_
                  refine sn_dup hO rfl dX9_next_323 ?_
                  refine sn_getI hO fmX9_216 atM_0 dX9_next_324 ?_
                  refine sn_iconst hO kc_1 dX9_next_327 ?_
                  refine sn_iadd hO dX9_next_328 ?_
                  refine sn_putI hO fmX9_216 atM_0 rfl rfl dX9_next_329 ?_
                  refine sn_nmS (fun S19 => ?_)
                  refine sn_goto hO 243 (by decide) dX9_next_332 ?_
                  exact hrc14 _
                · intro k17 hk17
                  refine sn_if_le hO 296 (by decide) dX9_next_286 ?_ ?_
                  · refine sn_aload_n hO 0 rfl dX9_next_296 ?_
                    refine sn_getJ hO fmX9_229 atM_0 dX9_next_297 ?_
                    refine sn_ldc2 hO q1766 dX9_next_300 ?_
                    refine sn_lmul hO dX9_next_303 ?_
                    refine sn_aload_n hO 0 rfl dX9_next_304 ?_
                    refine sn_getF hO fmX9_23 atM_0 dX9_next_305 ?_
                    refine sn_aload_n hO 0 rfl dX9_next_308 ?_
                    refine sn_getI hO fmX9_216 atM_0 dX9_next_309 ?_
                    refine sn_iald hO atM_5 rfl dX9_next_312 ?_
                    refine sn_i2l hO dX9_next_313 ?_
                    refine sn_ladd hO dX9_next_314 ?_
                    refine sn_ldc2 hO q1767 dX9_next_315 ?_
                    refine sn_lsub hO dX9_next_318 ?_
                    exact hk17 _
                  · refine sn_aload_n hO 0 rfl dX9_next_289 ?_
                    refine sn_getJ hO fmX9_229 atM_0 dX9_next_290 ?_
                    refine sn_goto hO 319 (by decide) dX9_next_293 ?_
                    exact hk17 _
        · intro k12 hk12
          refine sn_lp1_walk (Gd := fun (S20 : sn_S) => sn_G LoM w rmX9_next Qq sn_noE C 0 0 149 [(0, .ref (w.2.2.1 0))] [] S20) ?_ _
          intro rc21 hrc21 S20
          refine sn_aload_n hO 0 rfl dX9_next_149 ?_
          refine sn_getI hO fmX9_239 atM_0 dX9_next_150 ?_
          refine sn_iconst hO kc_1 dX9_next_153 ?_
          refine sn_icmp_ne hO 243 (by decide) dX9_next_154 ?_ ?_
          · exact hk12 _
          · refine sn_aload_n hO 0 rfl dX9_next_157 ?_
            refine sn_getI hO fmX9_216 atM_0 dX9_next_158 ?_
            refine sn_aload_n hO 0 rfl dX9_next_161 ?_
            refine sn_getI hO fmX9_206 atM_0 dX9_next_162 ?_
            refine sn_icmp_ge hO 243 (by decide) dX9_next_165 ?_ ?_
            · exact hk12 _
            · refine sn_aload_n hO 0 rfl dX9_next_168 ?_
              refine sn_getF hO fmX9_23 atM_0 dX9_next_169 ?_
              refine sn_aload_n hO 0 rfl dX9_next_172 ?_
              refine sn_getI hO fmX9_216 atM_0 dX9_next_173 ?_
              refine sn_iald hO atM_5 rfl dX9_next_176 ?_
              refine sn_callS hO (c2 := 0) (s2 := 0) [.int (S20.1 5 ((S20.1 0 10)).toNatClampNeg)] csX9_233 ctX9_isSmall ⟨Nat.le_of_ble_eq_true rfl, Nat.le_of_ble_eq_true rfl⟩ rfl rfl (Nat.le_of_ble_eq_true rfl) ⟨Nat.le_of_ble_eq_true rfl, Nat.le_of_ble_eq_true rfl, rfl, rfl⟩ dX9_next_177 (sn_bIp (fun r22 => ?_)) sn_x0
              refine sn_if_eq hO 243 (by decide) dX9_next_180 ?_ ?_
              · exact hk12 _
              · refine sn_aload_n hO 0 rfl dX9_next_183 ?_
                refine sn_aload_n hO 0 rfl dX9_next_184 ?_
                refine sn_getI hO fmX9_216 atM_0 dX9_next_185 ?_
                refine sn_aload_n hO 0 rfl dX9_next_188 ?_
                refine sn_getI hO fmX9_226 atM_0 dX9_next_189 ?_
                refine sn_isub hO dX9_next_192 ?_
                refine sn_bipush hO kb_10 dX9_next_193 ?_
                refine sn_jn_walk (fun (k : Int64 → Prop) => ∀ (v23 : Int64), k v23 → sn_G LoM w rmX9_next Qq sn_noE C 0 0 227 [(0, .ref (w.2.2.1 0))] [.long v23, .ref (w.2.2.1 0)] S20) ?_ ?_
                · intro v23
                  refine sn_putJ hO fmX9_229 atM_0 rfl rfl dX9_next_227 ?_
                  refine sn_nmS (fun S25 => ?_)
                  refine sn_aload_n hO 0 rfl dX9_next_230 ?_
                  refine sn_dup hO rfl dX9_next_231 ?_
                  refine sn_getI hO fmX9_216 atM_0 dX9_next_232 ?_
                  refine sn_iconst hO kc_1 dX9_next_235 ?_
                  refine sn_iadd hO dX9_next_236 ?_
                  refine sn_putI hO fmX9_216 atM_0 rfl rfl dX9_next_237 ?_
                  refine sn_nmS (fun S26 => ?_)
                  refine sn_goto hO 149 (by decide) dX9_next_240 ?_
                  exact hrc21 _
                · intro k24 hk24
                  refine sn_icmp_ge hO 224 (by decide) dX9_next_195 ?_ ?_
                  · refine sn_ldc2 hO q1764 dX9_next_224 ?_
                    exact hk24 _
                  · refine sn_aload_n hO 0 rfl dX9_next_198 ?_
                    refine sn_getJ hO fmX9_229 atM_0 dX9_next_199 ?_
                    refine sn_ldc2 hO q1762 dX9_next_202 ?_
                    refine sn_lmul hO dX9_next_205 ?_
                    refine sn_aload_n hO 0 rfl dX9_next_206 ?_
                    refine sn_getF hO fmX9_23 atM_0 dX9_next_207 ?_
                    refine sn_aload_n hO 0 rfl dX9_next_210 ?_
                    refine sn_getI hO fmX9_216 atM_0 dX9_next_211 ?_
                    refine sn_iald hO atM_5 rfl dX9_next_214 ?_
                    refine sn_i2l hO dX9_next_215 ?_
                    refine sn_ladd hO dX9_next_216 ?_
                    refine sn_ldc2 hO q1763 dX9_next_217 ?_
                    refine sn_lsub hO dX9_next_220 ?_
                    refine sn_goto hO 227 (by decide) dX9_next_221 ?_
                    exact hk24 _
      · intro k10 hk10
        refine sn_icmp_ne hO 149 (by decide) dX9_next_122 ?_ ?_
        · exact hk10 _
        · refine sn_aload_n hO 0 rfl dX9_next_125 ?_
          refine sn_aload_n hO 0 rfl dX9_next_126 ?_
          refine sn_getF hO fmX9_23 atM_0 dX9_next_127 ?_
          refine sn_aload_n hO 0 rfl dX9_next_130 ?_
          refine sn_getI hO fmX9_226 atM_0 dX9_next_131 ?_
          refine sn_iald hO atM_5 rfl dX9_next_134 ?_
          refine sn_i2l hO dX9_next_135 ?_
          refine sn_putJ hO fmX9_229 atM_0 rfl rfl dX9_next_136 ?_
          refine sn_nmS (fun S27 => ?_)
          refine sn_aload_n hO 0 rfl dX9_next_139 ?_
          refine sn_dup hO rfl dX9_next_140 ?_
          refine sn_getI hO fmX9_216 atM_0 dX9_next_141 ?_
          refine sn_iconst hO kc_1 dX9_next_144 ?_
          refine sn_iadd hO dX9_next_145 ?_
          refine sn_putI hO fmX9_216 atM_0 rfl rfl dX9_next_146 ?_
          refine sn_nmS (fun S28 => ?_)
          exact hk10 _
    · intro k7 hk7
      refine sn_icmp_ne hO 75 (by decide) dX9_next_68 ?_ ?_
      · refine sn_aload_n hO 0 rfl dX9_next_75 ?_
        refine sn_getF hO fmX9_23 atM_0 dX9_next_76 ?_
        refine sn_aload_n hO 0 rfl dX9_next_79 ?_
        refine sn_getI hO fmX9_226 atM_0 dX9_next_80 ?_
        refine sn_iald hO atM_5 rfl dX9_next_83 ?_
        refine sn_callS hO (c2 := 0) (s2 := 0) [.int (S5.1 5 ((S5.1 0 9)).toNatClampNeg)] csX9_233 ctX9_isSmall ⟨Nat.le_of_ble_eq_true rfl, Nat.le_of_ble_eq_true rfl⟩ rfl rfl (Nat.le_of_ble_eq_true rfl) ⟨Nat.le_of_ble_eq_true rfl, Nat.le_of_ble_eq_true rfl, rfl, rfl⟩ dX9_next_84 (sn_bIp (fun r29 => ?_)) sn_x0
        refine sn_if_eq hO 94 (by decide) dX9_next_87 ?_ ?_
        · refine sn_aload_n hO 0 rfl dX9_next_94 ?_
          refine sn_getF hO fmX9_23 atM_0 dX9_next_95 ?_
          refine sn_aload_n hO 0 rfl dX9_next_98 ?_
          refine sn_getI hO fmX9_226 atM_0 dX9_next_99 ?_
          refine sn_iald hO atM_5 rfl dX9_next_102 ?_
          refine sn_callS hO (c2 := 0) (s2 := 0) [.int (S5.1 5 ((S5.1 0 9)).toNatClampNeg)] csX9_236 ctX9_isDigit ⟨Nat.le_of_ble_eq_true rfl, Nat.le_of_ble_eq_true rfl⟩ rfl rfl (Nat.le_of_ble_eq_true rfl) ⟨Nat.le_of_ble_eq_true rfl, Nat.le_of_ble_eq_true rfl, rfl, rfl⟩ dX9_next_103 (sn_bIp (fun r30 => ?_)) sn_x0
          refine sn_if_eq hO 113 (by decide) dX9_next_106 ?_ ?_
          · refine sn_iconst hO kc_3 dX9_next_113 ?_
            exact hk7 _
          · refine sn_iconst hO kc_2 dX9_next_109 ?_
            refine sn_goto hO 114 (by decide) dX9_next_110 ?_
            exact hk7 _
        · refine sn_iconst hO kc_1 dX9_next_90 ?_
          refine sn_goto hO 114 (by decide) dX9_next_91 ?_
          exact hk7 _
      · refine sn_iconst hO kc_0 dX9_next_71 ?_
        refine sn_goto hO 114 (by decide) dX9_next_72 ?_
        exact hk7 _
  · intro k3 hk3
    refine sn_lp1_walk (Gd := fun (S31 : sn_S) => sn_G LoM w rmX9_next Qq sn_noE C 0 0 8 [(0, .ref (w.2.2.1 0))] [] S31) ?_ _
    intro rc32 hrc32 S31
    refine sn_aload_n hO 0 rfl dX9_next_8 ?_
    refine sn_getI hO fmX9_226 atM_0 dX9_next_9 ?_
    refine sn_aload_n hO 0 rfl dX9_next_12 ?_
    refine sn_getI hO fmX9_206 atM_0 dX9_next_13 ?_
    refine sn_icmp_ge hO 46 (by decide) dX9_next_16 ?_ ?_
    · exact hk3 _
    · refine sn_aload_n hO 0 rfl dX9_next_19 ?_
      refine sn_getF hO fmX9_23 atM_0 dX9_next_20 ?_
      refine sn_aload_n hO 0 rfl dX9_next_23 ?_
      refine sn_getI hO fmX9_226 atM_0 dX9_next_24 ?_
      refine sn_iald hO atM_5 rfl dX9_next_27 ?_
      refine sn_bipush hO kb_32 dX9_next_28 ?_
      refine sn_icmp_ne hO 46 (by decide) dX9_next_30 ?_ ?_
      · exact hk3 _
      · refine sn_aload_n hO 0 rfl dX9_next_33 ?_
        refine sn_dup hO rfl dX9_next_34 ?_
        refine sn_getI hO fmX9_226 atM_0 dX9_next_35 ?_
        refine sn_iconst hO kc_1 dX9_next_38 ?_
        refine sn_iadd hO dX9_next_39 ?_
        refine sn_putI hO fmX9_226 atM_0 rfl rfl dX9_next_40 ?_
        refine sn_nmS (fun S33 => ?_)
        refine sn_goto hO 8 (by decide) dX9_next_43 ?_
        exact hrc32 _
theorem ctX9_next {w : sn_W} {S : sn_S} {Q : sn_S → Prop} (h : wpX9_next S Q) : sn_Ct LoM w yX9_next (ws_ yX9_next cX9_next 1 none) rmX9_next [.ref (w.2.2.1 0)] S (sn_qV Q) sn_noE := sn_Ct_of (LoM_X w) (by decide) (Nat.le_of_ble_eq_true rfl) RX9 rfl (fun C hO => wkX9_next hO S Q h)
def rmX9_begin : Room := { frames := 2, cells := 0, slots := 0, locals := 40 }
/-- SnailPostModel.begin()V -/
def wpX9_begin (S : sn_S) (Q : sn_S → Prop) : Prop :=
  sn_lt (sn_pI S 0 10 0) (fun S1 => sn_lt (sn_pI S1 0 14 0) (fun S2 => sn_lt (sn_pI S2 0 13 (-1)) (fun S3 => wpX9_next S3 (fun (S4 : sn_S) => Q S4))))
theorem wkX9_begin {w : sn_W} {C : sn_C} (hO : sn_Ok LoM w C RX9 cX9_begin 1 none [] "begin") (S : sn_S) (Q : sn_S → Prop) : wpX9_begin S Q → sn_G LoM w rmX9_begin (sn_qV Q) sn_noE C 0 0 0 [(0, .ref (w.2.2.1 0))] [] S := by
  unfold wpX9_begin
  generalize hQq : (sn_qV Q) = Qq
  refine sn_aload_n hO 0 rfl dX9_begin_0 ?_
  refine sn_iconst hO kc_0 dX9_begin_1 ?_
  refine sn_putI hO fmX9_216 atM_0 rfl rfl dX9_begin_2 ?_
  refine sn_nmS (fun S1 => ?_)
  refine sn_aload_n hO 0 rfl dX9_begin_5 ?_
  refine sn_iconst hO kc_0 dX9_begin_6 ?_
  refine sn_putI hO fmX9_219 atM_0 rfl rfl dX9_begin_7 ?_
  refine sn_nmS (fun S2 => ?_)
  refine sn_aload_n hO 0 rfl dX9_begin_10 ?_
  refine sn_iconst hO kc_m1 dX9_begin_11 ?_
  refine sn_putI hO fmX9_26 atM_0 rfl rfl dX9_begin_12 ?_
  refine sn_nmS (fun S3 => ?_)
  refine sn_aload_n hO 0 rfl dX9_begin_15 ?_
  refine sn_callV hO (c2 := 0) (s2 := 0) [] cvX9_223 (fun _ => sn_Rv_K atM_0) ctX9_next ⟨Nat.le_of_ble_eq_true rfl, Nat.le_of_ble_eq_true rfl⟩ rfl rfl (Nat.le_of_ble_eq_true rfl) ⟨Nat.le_of_ble_eq_true rfl, Nat.le_of_ble_eq_true rfl, rfl, rfl⟩ dX9_begin_16 (sn_bV (fun S4 => ?_)) sn_x0
  subst hQq
  exact sn_vret hO rfl dX9_begin_19
theorem ctX9_begin {w : sn_W} {S : sn_S} {Q : sn_S → Prop} (h : wpX9_begin S Q) : sn_Ct LoM w yX9_begin (ws_ yX9_begin cX9_begin 1 none) rmX9_begin [.ref (w.2.2.1 0)] S (sn_qV Q) sn_noE := sn_Ct_of (LoM_X w) (by decide) (Nat.le_of_ble_eq_true rfl) RX9 rfl (fun C hO => wkX9_begin hO S Q h)
def rmX9_isWord : Room := { frames := 0, cells := 0, slots := 0, locals := 0 }
/-- SnailPostModel.isWord(J)Z -/
def wpX9_isWord (p1 : Int64) (S : sn_S) (Q : Int32 → Prop) : Prop :=
  ((¬ (S.1 0 11) = 1 → Q 0) ∧ ((S.1 0 11) = 1 → ((¬ (lg_cmp (S.2.1 0 12) p1) = 0 → Q 0) ∧ ((lg_cmp (S.2.1 0 12) p1) = 0 → Q 1))))
theorem wkX9_isWord {w : sn_W} {C : sn_C} (hO : sn_Ok LoM w C RX9 cX9_isWord 3 (some .boolean) [] "isWord") (p1 : Int64) (S : sn_S) (Q : Int32 → Prop) : wpX9_isWord p1 S Q → sn_G LoM w rmX9_isWord (sn_qI (fun r S1 => S1 = S ∧ Q r)) sn_noE C 0 0 0 [(0, .ref (w.2.2.1 0)), (1, .long p1)] [] S := by
  unfold wpX9_isWord
  generalize hQq : (sn_qI (fun r S1 => S1 = S ∧ Q r)) = Qq
  refine sn_aload_n hO 0 rfl dX9_isWord_0 ?_
  refine sn_getI hO fmX9_239 atM_0 dX9_isWord_1 ?_
  refine sn_iconst hO kc_1 dX9_isWord_4 ?_
  refine sn_icmp_ne hO 21 (by decide) dX9_isWord_5 ?_ ?_
  · refine sn_iconst hO kc_0 dX9_isWord_21 ?_
    subst hQq
    exact fun h => sn_zret hO (ty := .boolean) rfl rfl dX9_isWord_22 ⟨rfl, h⟩
  · refine sn_aload_n hO 0 rfl dX9_isWord_8 ?_
    refine sn_getJ hO fmX9_229 atM_0 dX9_isWord_9 ?_
    refine sn_lload_n hO 1 rfl dX9_isWord_12 ?_
    refine sn_lcmp hO dX9_isWord_13 ?_
    refine sn_if_ne hO 21 (by decide) dX9_isWord_14 ?_ ?_
    · refine sn_iconst hO kc_0 dX9_isWord_21 ?_
      subst hQq
      exact fun h => sn_zret hO (ty := .boolean) rfl rfl dX9_isWord_22 ⟨rfl, h⟩
    · refine sn_iconst hO kc_1 dX9_isWord_17 ?_
      refine sn_goto hO 22 (by decide) dX9_isWord_18 ?_
      subst hQq
      exact fun h => sn_zret hO (ty := .boolean) rfl rfl dX9_isWord_22 ⟨rfl, h⟩
theorem ctX9_isWord {w : sn_W} {p1 : Int64} {S : sn_S} {Q : Int32 → Prop} (h : wpX9_isWord p1 S Q) : sn_Ct LoM w yX9_isWord (ws_ yX9_isWord cX9_isWord 3 (some .boolean)) rmX9_isWord [.ref (w.2.2.1 0), .long p1] S (sn_qI (fun r S1 => S1 = S ∧ Q r)) sn_noE := sn_Ct_of (LoM_X w) (by decide) (Nat.le_of_ble_eq_true rfl) RX9 rfl (fun C hO => wkX9_isWord hO p1 S Q h)
def rmX9_must : Room := { frames := 2, cells := 0, slots := 0, locals := 40 }
/-- SnailPostModel.must(Z)V -/
def wpX9_must (p1 : Int32) (S : sn_S) (Q : sn_S → Prop) : Prop :=
  sn_jn (fun (S1 : sn_S) => ((¬ (S1.1 0 14) = 0 → Q S1) ∧ ((S1.1 0 14) = 0 → wpX9_next S1 (fun (S3 : sn_S) => Q S3)))) (fun (k2 : sn_S → Prop) => ((¬ (S.1 0 14) = 0 → k2 S) ∧ ((S.1 0 14) = 0 → ((¬ p1 = 0 → k2 S) ∧ (p1 = 0 → sn_lt (sn_pI S 0 14 1) (fun S4 => sn_lt (sn_pI S4 0 13 (S4.1 0 9)) (fun S5 => k2 S5)))))))
theorem wkX9_must {w : sn_W} {C : sn_C} (hO : sn_Ok LoM w C RX9 cX9_must 2 none [] "must") (p1 : Int32) (S : sn_S) (Q : sn_S → Prop) : wpX9_must p1 S Q → sn_G LoM w rmX9_must (sn_qV Q) sn_noE C 0 0 0 [(0, .ref (w.2.2.1 0)), (1, .int p1)] [] S := by
  unfold wpX9_must
  generalize hQq : (sn_qV Q) = Qq
  refine sn_aload_n hO 0 rfl dX9_must_0 ?_
  refine sn_getI hO fmX9_219 atM_0 dX9_must_1 ?_
  refine sn_jn_walk (fun (k : sn_S → Prop) => ∀ (S1 : sn_S), k S1 → sn_G LoM w rmX9_must Qq sn_noE C 0 0 24 [(0, .ref (w.2.2.1 0))] [] S1) ?_ ?_
  · intro S1
    refine sn_aload_n hO 0 rfl dX9_must_24 ?_
    refine sn_getI hO fmX9_219 atM_0 dX9_must_25 ?_
    refine sn_if_ne hO 35 (by decide) dX9_must_28 ?_ ?_
    · subst hQq
      exact sn_vret hO rfl dX9_must_35
    · refine sn_aload_n hO 0 rfl dX9_must_31 ?_
      refine sn_callV hO (c2 := 0) (s2 := 0) [] cvX9_223 (fun _ => sn_Rv_K atM_0) ctX9_next ⟨Nat.le_of_ble_eq_true rfl, Nat.le_of_ble_eq_true rfl⟩ rfl rfl (Nat.le_of_ble_eq_true rfl) ⟨Nat.le_of_ble_eq_true rfl, Nat.le_of_ble_eq_true rfl, rfl, rfl⟩ dX9_must_32 (sn_bV (fun S3 => ?_)) sn_x0
      subst hQq
      exact sn_vret hO rfl dX9_must_35
  · intro k2 hk2
    refine sn_if_ne hO 24 (by decide) dX9_must_4 ?_ ?_
    · refine sn_sub [0] rfl ?_
      exact hk2 _
    · refine sn_iload_n hO 1 rfl dX9_must_7 ?_
      refine sn_if_ne hO 24 (by decide) dX9_must_8 ?_ ?_
      · refine sn_sub [0] rfl ?_
        exact hk2 _
      · refine sn_aload_n hO 0 rfl dX9_must_11 ?_
        refine sn_iconst hO kc_1 dX9_must_12 ?_
        refine sn_putI hO fmX9_219 atM_0 rfl rfl dX9_must_13 ?_
        refine sn_nmS (fun S4 => ?_)
        refine sn_aload_n hO 0 rfl dX9_must_16 ?_
        refine sn_aload_n hO 0 rfl dX9_must_17 ?_
        refine sn_getI hO fmX9_226 atM_0 dX9_must_18 ?_
        refine sn_putI hO fmX9_26 atM_0 rfl rfl dX9_must_21 ?_
        refine sn_nmS (fun S5 => ?_)
        refine sn_sub [0] rfl ?_
        exact hk2 _
theorem ctX9_must {w : sn_W} {p1 : Int32} {S : sn_S} {Q : sn_S → Prop} (h : wpX9_must p1 S Q) : sn_Ct LoM w yX9_must (ws_ yX9_must cX9_must 2 none) rmX9_must [.ref (w.2.2.1 0), .int p1] S (sn_qV Q) sn_noE := sn_Ct_of (LoM_X w) (by decide) (Nat.le_of_ble_eq_true rfl) RX9 rfl (fun C hO => wkX9_must hO p1 S Q h)
def rmX9_push : Room := { frames := 0, cells := 0, slots := 0, locals := 0 }
/-- SnailPostModel.push(II)V -/
def wpX9_push (p1 : Int32) (p2 : Int32) (S : sn_S) (Q : sn_S → Prop) : Prop :=
  (vp_in (S.1 0 23) 400 ∧ sn_lt (sn_pI S 9 ((S.1 0 23)).toNatClampNeg p1) (fun S1 => (vp_in (S1.1 0 23) 400 ∧ sn_lt (sn_pI S1 10 ((S1.1 0 23)).toNatClampNeg p2) (fun S2 => sn_lt (sn_pI S2 0 23 ((S2.1 0 23) + 1)) (fun S3 => Q S3)))))
theorem wkX9_push {w : sn_W} {C : sn_C} (hO : sn_Ok LoM w C RX9 cX9_push 3 none [] "push") (p1 : Int32) (p2 : Int32) (S : sn_S) (Q : sn_S → Prop) : wpX9_push p1 p2 S Q → sn_G LoM w rmX9_push (sn_qV Q) sn_noE C 0 0 0 [(0, .ref (w.2.2.1 0)), (1, .int p1), (2, .int p2)] [] S := by
  unfold wpX9_push
  generalize hQq : (sn_qV Q) = Qq
  refine sn_aload_n hO 0 rfl dX9_push_0 ?_
  refine sn_getF hO fmX9_39 atM_0 dX9_push_1 ?_
  refine sn_aload_n hO 0 rfl dX9_push_4 ?_
  refine sn_getI hO fmX9_261 atM_0 dX9_push_5 ?_
  refine sn_iload_n hO 1 rfl dX9_push_8 ?_
  refine sn_iast hO atM_9 rfl dX9_push_9 ?_
  refine sn_nmS (fun S1 => ?_)
  refine sn_aload_n hO 0 rfl dX9_push_10 ?_
  refine sn_getF hO fmX9_42 atM_0 dX9_push_11 ?_
  refine sn_aload_n hO 0 rfl dX9_push_14 ?_
  refine sn_getI hO fmX9_261 atM_0 dX9_push_15 ?_
  refine sn_iload_n hO 2 rfl dX9_push_18 ?_
  refine sn_iast hO atM_10 rfl dX9_push_19 ?_
  refine sn_nmS (fun S2 => ?_)
  refine sn_aload_n hO 0 rfl dX9_push_20 ?_
  refine sn_dup hO rfl dX9_push_21 ?_
  refine sn_getI hO fmX9_261 atM_0 dX9_push_22 ?_
  refine sn_iconst hO kc_1 dX9_push_25 ?_
  refine sn_iadd hO dX9_push_26 ?_
  refine sn_putI hO fmX9_261 atM_0 rfl rfl dX9_push_27 ?_
  refine sn_nmS (fun S3 => ?_)
  subst hQq
  exact sn_vret hO rfl dX9_push_30
theorem ctX9_push {w : sn_W} {p1 : Int32} {p2 : Int32} {S : sn_S} {Q : sn_S → Prop} (h : wpX9_push p1 p2 S Q) : sn_Ct LoM w yX9_push (ws_ yX9_push cX9_push 3 none) rmX9_push [.ref (w.2.2.1 0), .int p1, .int p2] S (sn_qV Q) sn_noE := sn_Ct_of (LoM_X w) (by decide) (Nat.le_of_ble_eq_true rfl) RX9 rfl (fun C hO => wkX9_push hO p1 p2 S Q h)
def rmX9_isSign : Room := { frames := 0, cells := 0, slots := 0, locals := 0 }
/-- SnailPostModel.isSign(I)Z -/
def wpX9_isSign (p1 : Int32) (S : sn_S) (Q : Int32 → Prop) : Prop :=
  ((¬ (S.1 0 11) = 3 → Q 0) ∧ ((S.1 0 11) = 3 → ((¬ (lg_cmp (S.2.1 0 12) (Int32.toInt64 p1)) = 0 → Q 0) ∧ ((lg_cmp (S.2.1 0 12) (Int32.toInt64 p1)) = 0 → Q 1))))
theorem wkX9_isSign {w : sn_W} {C : sn_C} (hO : sn_Ok LoM w C RX9 cX9_isSign 2 (some .boolean) [] "isSign") (p1 : Int32) (S : sn_S) (Q : Int32 → Prop) : wpX9_isSign p1 S Q → sn_G LoM w rmX9_isSign (sn_qI (fun r S1 => S1 = S ∧ Q r)) sn_noE C 0 0 0 [(0, .ref (w.2.2.1 0)), (1, .int p1)] [] S := by
  unfold wpX9_isSign
  generalize hQq : (sn_qI (fun r S1 => S1 = S ∧ Q r)) = Qq
  refine sn_aload_n hO 0 rfl dX9_isSign_0 ?_
  refine sn_getI hO fmX9_239 atM_0 dX9_isSign_1 ?_
  refine sn_iconst hO kc_3 dX9_isSign_4 ?_
  refine sn_icmp_ne hO 22 (by decide) dX9_isSign_5 ?_ ?_
  · refine sn_iconst hO kc_0 dX9_isSign_22 ?_
    subst hQq
    exact fun h => sn_zret hO (ty := .boolean) rfl rfl dX9_isSign_23 ⟨rfl, h⟩
  · refine sn_aload_n hO 0 rfl dX9_isSign_8 ?_
    refine sn_getJ hO fmX9_229 atM_0 dX9_isSign_9 ?_
    refine sn_iload_n hO 1 rfl dX9_isSign_12 ?_
    refine sn_i2l hO dX9_isSign_13 ?_
    refine sn_lcmp hO dX9_isSign_14 ?_
    refine sn_if_ne hO 22 (by decide) dX9_isSign_15 ?_ ?_
    · refine sn_iconst hO kc_0 dX9_isSign_22 ?_
      subst hQq
      exact fun h => sn_zret hO (ty := .boolean) rfl rfl dX9_isSign_23 ⟨rfl, h⟩
    · refine sn_iconst hO kc_1 dX9_isSign_18 ?_
      refine sn_goto hO 23 (by decide) dX9_isSign_19 ?_
      subst hQq
      exact fun h => sn_zret hO (ty := .boolean) rfl rfl dX9_isSign_23 ⟨rfl, h⟩
theorem ctX9_isSign {w : sn_W} {p1 : Int32} {S : sn_S} {Q : Int32 → Prop} (h : wpX9_isSign p1 S Q) : sn_Ct LoM w yX9_isSign (ws_ yX9_isSign cX9_isSign 2 (some .boolean)) rmX9_isSign [.ref (w.2.2.1 0), .int p1] S (sn_qI (fun r S1 => S1 = S ∧ Q r)) sn_noE := sn_Ct_of (LoM_X w) (by decide) (Nat.le_of_ble_eq_true rfl) RX9 rfl (fun C hO => wkX9_isSign hO p1 S Q h)
def rmX9_openBracket : Room := { frames := 3, cells := 0, slots := 0, locals := 61 }
/-- SnailPostModel.openBracket(I)V -/
def wpX9_openBracket (p1 : Int32) (S : sn_S) (Q : sn_S → Prop) : Prop :=
  sn_jn (fun (v1 : Int32) => wpX9_must v1 S (fun (S3 : sn_S) => ((¬ (S3.1 0 14) = 0 → Q S3) ∧ ((S3.1 0 14) = 0 → sn_lt (sn_pI S3 0 24 ((S3.1 0 24) + 1)) (fun S4 => wpX9_push p1 0 S4 (fun (S5 : sn_S) => Q S5)))))) (fun (k2 : Int32 → Prop) => ((8 ≤ (S.1 0 24) → k2 0) ∧ (¬ 8 ≤ (S.1 0 24) → k2 1)))
theorem wkX9_openBracket {w : sn_W} {C : sn_C} (hO : sn_Ok LoM w C RX9 cX9_openBracket 2 none [] "openBracket") (p1 : Int32) (S : sn_S) (Q : sn_S → Prop) : wpX9_openBracket p1 S Q → sn_G LoM w rmX9_openBracket (sn_qV Q) sn_noE C 0 0 0 [(0, .ref (w.2.2.1 0)), (1, .int p1)] [] S := by
  unfold wpX9_openBracket
  generalize hQq : (sn_qV Q) = Qq
  refine sn_aload_n hO 0 rfl dX9_openBracket_0 ?_
  refine sn_aload_n hO 0 rfl dX9_openBracket_1 ?_
  refine sn_getI hO fmX9_279 atM_0 dX9_openBracket_2 ?_
  refine sn_bipush hO kb_8 dX9_openBracket_5 ?_
  refine sn_jn_walk (fun (k : Int32 → Prop) => ∀ (v1 : Int32), k v1 → sn_G LoM w rmX9_openBracket Qq sn_noE C 0 0 15 [(0, .ref (w.2.2.1 0)), (1, .int p1)] [.int v1, .ref (w.2.2.1 0)] S) ?_ ?_
  · intro v1
    refine sn_callV hO (c2 := 0) (s2 := 0) [.int v1] cvX9_254 (fun _ => sn_Rv_K atM_0) ctX9_must ⟨Nat.le_of_ble_eq_true rfl, Nat.le_of_ble_eq_true rfl⟩ rfl rfl (Nat.le_of_ble_eq_true rfl) ⟨Nat.le_of_ble_eq_true rfl, Nat.le_of_ble_eq_true rfl, rfl, rfl⟩ dX9_openBracket_15 (sn_bV (fun S3 => ?_)) sn_x0
    refine sn_aload_n hO 0 rfl dX9_openBracket_18 ?_
    refine sn_getI hO fmX9_219 atM_0 dX9_openBracket_19 ?_
    refine sn_if_ne hO 41 (by decide) dX9_openBracket_22 ?_ ?_
    · subst hQq
      exact sn_vret hO rfl dX9_openBracket_41
    · refine sn_aload_n hO 0 rfl dX9_openBracket_25 ?_
      refine sn_dup hO rfl dX9_openBracket_26 ?_
      refine sn_getI hO fmX9_279 atM_0 dX9_openBracket_27 ?_
      refine sn_iconst hO kc_1 dX9_openBracket_30 ?_
      refine sn_iadd hO dX9_openBracket_31 ?_
      refine sn_putI hO fmX9_279 atM_0 rfl rfl dX9_openBracket_32 ?_
      refine sn_nmS (fun S4 => ?_)
      refine sn_aload_n hO 0 rfl dX9_openBracket_35 ?_
      refine sn_iload_n hO 1 rfl dX9_openBracket_36 ?_
      refine sn_iconst hO kc_0 dX9_openBracket_37 ?_
      refine sn_callV hO (c2 := 0) (s2 := 0) [.int p1, .int 0] cvX9_282 (fun _ => sn_Rv_K atM_0) ctX9_push ⟨Nat.le_of_ble_eq_true rfl, Nat.le_of_ble_eq_true rfl⟩ rfl rfl (Nat.le_of_ble_eq_true rfl) ⟨Nat.le_of_ble_eq_true rfl, Nat.le_of_ble_eq_true rfl, rfl, rfl⟩ dX9_openBracket_38 (sn_bV (fun S5 => ?_)) sn_x0
      subst hQq
      exact sn_vret hO rfl dX9_openBracket_41
  · intro k2 hk2
    refine sn_icmp_ge hO 14 (by decide) dX9_openBracket_7 ?_ ?_
    · refine sn_iconst hO kc_0 dX9_openBracket_14 ?_
      exact hk2 _
    · refine sn_iconst hO kc_1 dX9_openBracket_10 ?_
      refine sn_goto hO 15 (by decide) dX9_openBracket_11 ?_
      exact hk2 _
theorem ctX9_openBracket {w : sn_W} {p1 : Int32} {S : sn_S} {Q : sn_S → Prop} (h : wpX9_openBracket p1 S Q) : sn_Ct LoM w yX9_openBracket (ws_ yX9_openBracket cX9_openBracket 2 none) rmX9_openBracket [.ref (w.2.2.1 0), .int p1] S (sn_qV Q) sn_noE := sn_Ct_of (LoM_X w) (by decide) (Nat.le_of_ble_eq_true rfl) RX9 rfl (fun C hO => wkX9_openBracket hO p1 S Q h)
def rmX9_partAt : Room := { frames := 1, cells := 0, slots := 0, locals := 22 }
/-- SnailPostModel.partAt()I -/
def wpX9_partAt (S : sn_S) (Q : Int32 → Prop) : Prop :=
  sn_lp2 (fun (rc3 : Int32 → Int32 → Prop) (i1 : Int32) (i2 : Int32) => ((10 ≤ i2 → Q i1) ∧ (¬ 10 ≤ i2 → (vp_in i2 10 ∧ wpX9_isWord (S.2.1 11 (i2).toNatClampNeg) S (fun (r4 : Int32) => sn_jn (fun (v5 : Int32) => rc3 v5 (i2 + 1)) (fun (k6 : Int32 → Prop) => ((r4 = 0 → k6 i1) ∧ (¬ r4 = 0 → k6 (i2 + 1))))))))) (-1) 0
theorem wkX9_partAt {w : sn_W} {C : sn_C} (hO : sn_Ok LoM w C RX9 cX9_partAt 3 (some .int) [] "partAt") (S : sn_S) (Q : Int32 → Prop) : wpX9_partAt S Q → sn_G LoM w rmX9_partAt (sn_qI (fun r S1 => S1 = S ∧ Q r)) sn_noE C 0 0 0 [(0, .ref (w.2.2.1 0))] [] S := by
  unfold wpX9_partAt
  generalize hQq : (sn_qI (fun r S1 => S1 = S ∧ Q r)) = Qq
  refine sn_iconst hO kc_m1 dX9_partAt_0 ?_
  refine sn_istore_n hO (lv' := [(1, .int (-1)), (0, .ref (w.2.2.1 0))]) (by decide) rfl dX9_partAt_1 ?_
  refine sn_iconst hO kc_0 dX9_partAt_2 ?_
  refine sn_istore_n hO (lv' := [(2, .int 0), (1, .int (-1)), (0, .ref (w.2.2.1 0))]) (by decide) rfl dX9_partAt_3 ?_
  refine sn_sub [2, 1, 0] rfl ?_
  refine sn_lp2_walk (Gd := fun (i1 : Int32) (i2 : Int32) => sn_G LoM w rmX9_partAt Qq sn_noE C 0 0 4 [(0, .ref (w.2.2.1 0)), (1, .int i1), (2, .int i2)] [] S) ?_ _ _
  intro rc3 hrc3 i1 i2
  refine sn_iload_n hO 2 rfl dX9_partAt_4 ?_
  refine sn_bipush hO kb_10 dX9_partAt_5 ?_
  refine sn_icmp_ge hO 37 (by decide) dX9_partAt_7 ?_ ?_
  · refine sn_iload_n hO 1 rfl dX9_partAt_37 ?_
    subst hQq
    exact fun h => sn_iret hO rfl dX9_partAt_38 ⟨rfl, h⟩
  · refine sn_aload_n hO 0 rfl dX9_partAt_10 ?_
    refine sn_aload_n hO 0 rfl dX9_partAt_11 ?_
    refine sn_getF hO fmX9_65 atM_0 dX9_partAt_12 ?_
    refine sn_iload_n hO 2 rfl dX9_partAt_15 ?_
    refine sn_lald hO atM_11 rfl dX9_partAt_16 ?_
    refine sn_callV hO (c2 := 0) (s2 := 0) [.long (S.2.1 11 (i2).toNatClampNeg)] cvX9_275 (fun _ => sn_Rv_K atM_0) ctX9_isWord ⟨Nat.le_of_ble_eq_true rfl, Nat.le_of_ble_eq_true rfl⟩ rfl rfl (Nat.le_of_ble_eq_true rfl) ⟨Nat.le_of_ble_eq_true rfl, Nat.le_of_ble_eq_true rfl, rfl, rfl⟩ dX9_partAt_17 (sn_bIp (fun r4 => ?_)) sn_x0
    refine sn_jn_walk (fun (k : Int32 → Prop) => ∀ (v5 : Int32), k v5 → sn_G LoM w rmX9_partAt Qq sn_noE C 0 0 30 [(0, .ref (w.2.2.1 0)), (2, .int i2)] [.int v5] S) ?_ ?_
    · intro v5
      refine sn_istore_n hO (lv' := [(1, .int v5), (0, .ref (w.2.2.1 0)), (2, .int i2)]) (by decide) rfl dX9_partAt_30 ?_
      refine sn_iinc hO (lv' := [(2, .int (i2 + 1)), (1, .int v5), (0, .ref (w.2.2.1 0))]) 2 rfl ki_1 (by decide) rfl dX9_partAt_31 ?_
      refine sn_goto hO 4 (by decide) dX9_partAt_34 ?_
      refine sn_sub [2, 1, 0] rfl ?_
      exact hrc3 _ _
    · intro k6 hk6
      refine sn_if_eq hO 29 (by decide) dX9_partAt_20 ?_ ?_
      · refine sn_iload_n hO 1 rfl dX9_partAt_29 ?_
        refine sn_sub [0, 2] rfl ?_
        exact hk6 _
      · refine sn_iload_n hO 2 rfl dX9_partAt_23 ?_
        refine sn_iconst hO kc_1 dX9_partAt_24 ?_
        refine sn_iadd hO dX9_partAt_25 ?_
        refine sn_goto hO 30 (by decide) dX9_partAt_26 ?_
        refine sn_sub [0, 2] rfl ?_
        exact hk6 _
theorem ctX9_partAt {w : sn_W} {S : sn_S} {Q : Int32 → Prop} (h : wpX9_partAt S Q) : sn_Ct LoM w yX9_partAt (ws_ yX9_partAt cX9_partAt 3 (some .int)) rmX9_partAt [.ref (w.2.2.1 0)] S (sn_qI (fun r S1 => S1 = S ∧ Q r)) sn_noE := sn_Ct_of (LoM_X w) (by decide) (Nat.le_of_ble_eq_true rfl) RX9 rfl (fun C hO => wkX9_partAt hO S Q h)
def rmX9_emit : Room := { frames := 0, cells := 0, slots := 0, locals := 0 }
/-- SnailPostModel.emit(II)V -/
def wpX9_emit (p1 : Int32) (p2 : Int32) (S : sn_S) (Q : sn_S → Prop) : Prop :=
  (vp_in (S.1 0 17) 400 ∧ sn_lt (sn_pI S 7 ((S.1 0 17)).toNatClampNeg p1) (fun S1 => (vp_in (S1.1 0 17) 400 ∧ sn_lt (sn_pI S1 8 ((S1.1 0 17)).toNatClampNeg p2) (fun S2 => sn_lt (sn_pI S2 0 17 ((S2.1 0 17) + 1)) (fun S3 => Q S3)))))
theorem wkX9_emit {w : sn_W} {C : sn_C} (hO : sn_Ok LoM w C RX9 cX9_emit 3 none [] "emit") (p1 : Int32) (p2 : Int32) (S : sn_S) (Q : sn_S → Prop) : wpX9_emit p1 p2 S Q → sn_G LoM w rmX9_emit (sn_qV Q) sn_noE C 0 0 0 [(0, .ref (w.2.2.1 0)), (1, .int p1), (2, .int p2)] [] S := by
  unfold wpX9_emit
  generalize hQq : (sn_qV Q) = Qq
  refine sn_aload_n hO 0 rfl dX9_emit_0 ?_
  refine sn_getF hO fmX9_33 atM_0 dX9_emit_1 ?_
  refine sn_aload_n hO 0 rfl dX9_emit_4 ?_
  refine sn_getI hO fmX9_258 atM_0 dX9_emit_5 ?_
  refine sn_iload_n hO 1 rfl dX9_emit_8 ?_
  refine sn_iast hO atM_7 rfl dX9_emit_9 ?_
  refine sn_nmS (fun S1 => ?_)
  refine sn_aload_n hO 0 rfl dX9_emit_10 ?_
  refine sn_getF hO fmX9_36 atM_0 dX9_emit_11 ?_
  refine sn_aload_n hO 0 rfl dX9_emit_14 ?_
  refine sn_getI hO fmX9_258 atM_0 dX9_emit_15 ?_
  refine sn_iload_n hO 2 rfl dX9_emit_18 ?_
  refine sn_iast hO atM_8 rfl dX9_emit_19 ?_
  refine sn_nmS (fun S2 => ?_)
  refine sn_aload_n hO 0 rfl dX9_emit_20 ?_
  refine sn_dup hO rfl dX9_emit_21 ?_
  refine sn_getI hO fmX9_258 atM_0 dX9_emit_22 ?_
  refine sn_iconst hO kc_1 dX9_emit_25 ?_
  refine sn_iadd hO dX9_emit_26 ?_
  refine sn_putI hO fmX9_258 atM_0 rfl rfl dX9_emit_27 ?_
  refine sn_nmS (fun S3 => ?_)
  subst hQq
  exact sn_vret hO rfl dX9_emit_30
theorem ctX9_emit {w : sn_W} {p1 : Int32} {p2 : Int32} {S : sn_S} {Q : sn_S → Prop} (h : wpX9_emit p1 p2 S Q) : sn_Ct LoM w yX9_emit (ws_ yX9_emit cX9_emit 3 none) rmX9_emit [.ref (w.2.2.1 0), .int p1, .int p2] S (sn_qV Q) sn_noE := sn_Ct_of (LoM_X w) (by decide) (Nat.le_of_ble_eq_true rfl) RX9 rfl (fun C hO => wkX9_emit hO p1 p2 S Q h)
def rmX9_leaf : Room := { frames := 3, cells := 0, slots := 0, locals := 61 }
/-- SnailPostModel.leaf(ZII)V -/
def wpX9_leaf (p1 : Int32) (p2 : Int32) (p3 : Int32) (S : sn_S) (Q : sn_S → Prop) : Prop :=
  sn_jn (fun (v1 : Int32) => wpX9_must v1 S (fun (S3 : sn_S) => ((¬ (S3.1 0 14) = 0 → Q S3) ∧ ((S3.1 0 14) = 0 → wpX9_emit p2 p3 S3 (fun (S4 : sn_S) => sn_lt (sn_pI S4 0 20 ((S4.1 0 20) + 1)) (fun S5 => Q S5)))))) (fun (k2 : Int32 → Prop) => sn_jn (κ := Prop) (k2 0) (fun (k6 : Prop) => ((p1 = 0 → k6) ∧ (¬ p1 = 0 → ((50 ≤ (S.1 0 20) → k6) ∧ (¬ 50 ≤ (S.1 0 20) → k2 1))))))
theorem wkX9_leaf {w : sn_W} {C : sn_C} (hO : sn_Ok LoM w C RX9 cX9_leaf 4 none [] "leaf") (p1 : Int32) (p2 : Int32) (p3 : Int32) (S : sn_S) (Q : sn_S → Prop) : wpX9_leaf p1 p2 p3 S Q → sn_G LoM w rmX9_leaf (sn_qV Q) sn_noE C 0 0 0 [(0, .ref (w.2.2.1 0)), (1, .int p1), (2, .int p2), (3, .int p3)] [] S := by
  unfold wpX9_leaf
  generalize hQq : (sn_qV Q) = Qq
  refine sn_aload_n hO 0 rfl dX9_leaf_0 ?_
  refine sn_iload_n hO 1 rfl dX9_leaf_1 ?_
  refine sn_jn_walk (fun (k : Int32 → Prop) => ∀ (v1 : Int32), k v1 → sn_G LoM w rmX9_leaf Qq sn_noE C 0 0 19 [(0, .ref (w.2.2.1 0)), (2, .int p2), (3, .int p3)] [.int v1, .ref (w.2.2.1 0)] S) ?_ ?_
  · intro v1
    refine sn_callV hO (c2 := 0) (s2 := 0) [.int v1] cvX9_254 (fun _ => sn_Rv_K atM_0) ctX9_must ⟨Nat.le_of_ble_eq_true rfl, Nat.le_of_ble_eq_true rfl⟩ rfl rfl (Nat.le_of_ble_eq_true rfl) ⟨Nat.le_of_ble_eq_true rfl, Nat.le_of_ble_eq_true rfl, rfl, rfl⟩ dX9_leaf_19 (sn_bV (fun S3 => ?_)) sn_x0
    refine sn_aload_n hO 0 rfl dX9_leaf_22 ?_
    refine sn_getI hO fmX9_219 atM_0 dX9_leaf_23 ?_
    refine sn_if_ne hO 45 (by decide) dX9_leaf_26 ?_ ?_
    · subst hQq
      exact sn_vret hO rfl dX9_leaf_45
    · refine sn_aload_n hO 0 rfl dX9_leaf_29 ?_
      refine sn_iload_n hO 1 rfl dX9_leaf_30 ?_
      refine sn_iload_n hO 2 rfl dX9_leaf_31 ?_
      refine sn_callV hO (c2 := 0) (s2 := 0) [.int p2, .int p3] cvX9_267 (fun _ => sn_Rv_K atM_0) ctX9_emit ⟨Nat.le_of_ble_eq_true rfl, Nat.le_of_ble_eq_true rfl⟩ rfl rfl (Nat.le_of_ble_eq_true rfl) ⟨Nat.le_of_ble_eq_true rfl, Nat.le_of_ble_eq_true rfl, rfl, rfl⟩ dX9_leaf_32 (sn_bV (fun S4 => ?_)) sn_x0
      refine sn_aload_n hO 0 rfl dX9_leaf_35 ?_
      refine sn_dup hO rfl dX9_leaf_36 ?_
      refine sn_getI hO fmX9_285 atM_0 dX9_leaf_37 ?_
      refine sn_iconst hO kc_1 dX9_leaf_40 ?_
      refine sn_iadd hO dX9_leaf_41 ?_
      refine sn_putI hO fmX9_285 atM_0 rfl rfl dX9_leaf_42 ?_
      refine sn_nmS (fun S5 => ?_)
      subst hQq
      exact sn_vret hO rfl dX9_leaf_45
  · intro k2 hk2
    refine sn_jn_walk (fun (k : Prop) => k → sn_G LoM w rmX9_leaf Qq sn_noE C 0 0 18 [(0, .ref (w.2.2.1 0)), (2, .int p2), (3, .int p3)] [.ref (w.2.2.1 0)] S) ?_ ?_
    · refine sn_iconst hO kc_0 dX9_leaf_18 ?_
      exact hk2 _
    · intro k6 hk6
      refine sn_if_eq hO 18 (by decide) dX9_leaf_2 ?_ ?_
      · refine sn_sub [0, 2, 3] rfl ?_
        exact hk6
      · refine sn_aload_n hO 0 rfl dX9_leaf_5 ?_
        refine sn_getI hO fmX9_285 atM_0 dX9_leaf_6 ?_
        refine sn_bipush hO kb_50 dX9_leaf_9 ?_
        refine sn_icmp_ge hO 18 (by decide) dX9_leaf_11 ?_ ?_
        · refine sn_sub [0, 2, 3] rfl ?_
          exact hk6
        · refine sn_iconst hO kc_1 dX9_leaf_14 ?_
          refine sn_goto hO 19 (by decide) dX9_leaf_15 ?_
          refine sn_sub [0, 2, 3] rfl ?_
          exact hk2 _
theorem ctX9_leaf {w : sn_W} {p1 : Int32} {p2 : Int32} {p3 : Int32} {S : sn_S} {Q : sn_S → Prop} (h : wpX9_leaf p1 p2 p3 S Q) : sn_Ct LoM w yX9_leaf (ws_ yX9_leaf cX9_leaf 4 none) rmX9_leaf [.ref (w.2.2.1 0), .int p1, .int p2, .int p3] S (sn_qV Q) sn_noE := sn_Ct_of (LoM_X w) (by decide) (Nat.le_of_ble_eq_true rfl) RX9 rfl (fun C hO => wkX9_leaf hO p1 p2 p3 S Q h)
def rmX9_readPart : Room := { frames := 4, cells := 0, slots := 0, locals := 84 }
/-- SnailPostModel.readPart()I -/
def wpX9_readPart (S : sn_S) (Q : Int32 → sn_S → Prop) : Prop :=
  wpX9_isSign 91 S (fun (r1 : Int32) => ((r1 = 0 → wpX9_partAt S (fun (r2 : Int32) => sn_jn (fun (v3 : Int32) => sn_jn (fun (v5 : Int32) => sn_jn (fun (v7 : Int32) => sn_jn (fun (v9 : Int32) => wpX9_leaf v5 v7 v9 S (fun (S11 : sn_S) => Q 3 S11)) (fun (k10 : Int32 → Prop) => ((v3 = 0 → k10 0) ∧ (¬ v3 = 0 → k10 (Int64.toInt32 (S.2.1 0 12)))))) (fun (k8 : Int32 → Prop) => ((¬ r2 = (-1) → k8 r2) ∧ (r2 = (-1) → k8 0)))) (fun (k6 : Int32 → Prop) => sn_jn (κ := Prop) (k6 1) (fun (k12 : Prop) => ((¬ r2 = (-1) → k12) ∧ (r2 = (-1) → ((v3 = 0 → k6 0) ∧ (¬ v3 = 0 → k12))))))) (fun (k4 : Int32 → Prop) => sn_jn (κ := Prop) (k4 0) (fun (k13 : Prop) => ((¬ (S.1 0 11) = 2 → k13) ∧ ((S.1 0 11) = 2 → ((0 < (lg_cmp (S.2.1 0 12) 1000) → k13) ∧ (¬ 0 < (lg_cmp (S.2.1 0 12) 1000) → k4 1)))))))) ∧ (¬ r1 = 0 → wpX9_openBracket 31 S (fun (S14 : sn_S) => Q 1 S14))))
theorem wkX9_readPart {w : sn_W} {C : sn_C} (hO : sn_Ok LoM w C RX9 cX9_readPart 3 (some .int) [] "readPart") (S : sn_S) (Q : Int32 → sn_S → Prop) : wpX9_readPart S Q → sn_G LoM w rmX9_readPart (sn_qI Q) sn_noE C 0 0 0 [(0, .ref (w.2.2.1 0))] [] S := by
  unfold wpX9_readPart
  generalize hQq : (sn_qI Q) = Qq
  refine sn_aload_n hO 0 rfl dX9_readPart_0 ?_
  refine sn_bipush hO kb_91 dX9_readPart_1 ?_
  refine sn_callV hO (c2 := 0) (s2 := 0) [.int 91] cvX9_288 (fun _ => sn_Rv_K atM_0) ctX9_isSign ⟨Nat.le_of_ble_eq_true rfl, Nat.le_of_ble_eq_true rfl⟩ rfl rfl (Nat.le_of_ble_eq_true rfl) ⟨Nat.le_of_ble_eq_true rfl, Nat.le_of_ble_eq_true rfl, rfl, rfl⟩ dX9_readPart_3 (sn_bIp (fun r1 => ?_)) sn_x0
  refine sn_if_eq hO 17 (by decide) dX9_readPart_6 ?_ ?_
  · refine sn_aload_n hO 0 rfl dX9_readPart_17 ?_
    refine sn_callV hO (c2 := 0) (s2 := 0) [] cvX9_294 (fun _ => sn_Rv_K atM_0) ctX9_partAt ⟨Nat.le_of_ble_eq_true rfl, Nat.le_of_ble_eq_true rfl⟩ rfl rfl (Nat.le_of_ble_eq_true rfl) ⟨Nat.le_of_ble_eq_true rfl, Nat.le_of_ble_eq_true rfl, rfl, rfl⟩ dX9_readPart_18 (sn_bIp (fun r2 => ?_)) sn_x0
    refine sn_istore_n hO (lv' := [(1, .int r2), (0, .ref (w.2.2.1 0))]) (by decide) rfl dX9_readPart_21 ?_
    refine sn_aload_n hO 1 rfl dX9_readPart_22 ?_
    refine sn_getI hO fmX9_239 atM_0 dX9_readPart_23 ?_
    refine sn_iconst hO kc_2 dX9_readPart_26 ?_
    refine sn_jn_walk (fun (k : Int32 → Prop) => ∀ (v3 : Int32), k v3 → sn_G LoM w rmX9_readPart Qq sn_noE C 0 0 46 [(0, .ref (w.2.2.1 0)), (1, .int r2)] [.int v3] S) ?_ ?_
    · intro v3
      refine sn_istore_n hO (lv' := [(2, .int v3), (0, .ref (w.2.2.1 0)), (1, .int r2)]) (by decide) rfl dX9_readPart_46 ?_
      refine sn_aload_n hO 1 rfl dX9_readPart_47 ?_
      refine sn_iload_n hO 2 rfl dX9_readPart_48 ?_
      refine sn_iconst hO kc_m1 dX9_readPart_49 ?_
      refine sn_jn_walk (fun (k : Int32 → Prop) => ∀ (v5 : Int32), k v5 → sn_G LoM w rmX9_readPart Qq sn_noE C 0 0 62 [(0, .ref (w.2.2.1 0)), (1, .int r2), (2, .int v3)] [.int v5, .ref (w.2.2.1 0)] S) ?_ ?_
      · intro v5
        refine sn_iload_n hO 1 rfl dX9_readPart_62 ?_
        refine sn_iconst hO kc_m1 dX9_readPart_63 ?_
        refine sn_jn_walk (fun (k : Int32 → Prop) => ∀ (v7 : Int32), k v7 → sn_G LoM w rmX9_readPart Qq sn_noE C 0 0 72 [(0, .ref (w.2.2.1 0)), (2, .int v3)] [.int v7, .int v5, .ref (w.2.2.1 0)] S) ?_ ?_
        · intro v7
          refine sn_iload_n hO 1 rfl dX9_readPart_72 ?_
          refine sn_jn_walk (fun (k : Int32 → Prop) => ∀ (v9 : Int32), k v9 → sn_G LoM w rmX9_readPart Qq sn_noE C 0 0 85 [] [.int v9, .int v7, .int v5, .ref (w.2.2.1 0)] S) ?_ ?_
          · intro v9
            refine sn_callV hO (c2 := 0) (s2 := 0) [.int v5, .int v7, .int v9] cvX9_300 (fun _ => sn_Rv_K atM_0) ctX9_leaf ⟨Nat.le_of_ble_eq_true rfl, Nat.le_of_ble_eq_true rfl⟩ rfl rfl (Nat.le_of_ble_eq_true rfl) ⟨Nat.le_of_ble_eq_true rfl, Nat.le_of_ble_eq_true rfl, rfl, rfl⟩ dX9_readPart_85 (sn_bV (fun S11 => ?_)) sn_x0
            refine sn_iconst hO kc_3 dX9_readPart_88 ?_
            subst hQq
            exact sn_iret hO rfl dX9_readPart_89
          · intro k10 hk10
            refine sn_if_eq hO 84 (by decide) dX9_readPart_73 ?_ ?_
            · refine sn_iconst hO kc_0 dX9_readPart_84 ?_
              refine sn_sub [] rfl ?_
              exact hk10 _
            · refine sn_aload_n hO 0 rfl dX9_readPart_76 ?_
              refine sn_getJ hO fmX9_229 atM_0 dX9_readPart_77 ?_
              refine sn_l2i hO dX9_readPart_80 ?_
              refine sn_goto hO 85 (by decide) dX9_readPart_81 ?_
              refine sn_sub [] rfl ?_
              exact hk10 _
        · intro k8 hk8
          refine sn_icmp_ne hO 71 (by decide) dX9_readPart_64 ?_ ?_
          · refine sn_iload_n hO 1 rfl dX9_readPart_71 ?_
            refine sn_sub [0, 2] rfl ?_
            exact hk8 _
          · refine sn_iconst hO kc_0 dX9_readPart_67 ?_
            refine sn_goto hO 72 (by decide) dX9_readPart_68 ?_
            refine sn_sub [0, 2] rfl ?_
            exact hk8 _
      · intro k6 hk6
        refine sn_jn_walk (fun (k : Prop) => k → sn_G LoM w rmX9_readPart Qq sn_noE C 0 0 57 [(0, .ref (w.2.2.1 0)), (1, .int r2), (2, .int v3)] [.ref (w.2.2.1 0)] S) ?_ ?_
        · refine sn_iconst hO kc_1 dX9_readPart_57 ?_
          refine sn_goto hO 62 (by decide) dX9_readPart_58 ?_
          exact hk6 _
        · intro k12 hk12
          refine sn_icmp_ne hO 57 (by decide) dX9_readPart_50 ?_ ?_
          · refine sn_sub [1, 2, 0] rfl ?_
            exact hk12
          · refine sn_iload_n hO 0 rfl dX9_readPart_53 ?_
            refine sn_if_eq hO 61 (by decide) dX9_readPart_54 ?_ ?_
            · refine sn_iconst hO kc_0 dX9_readPart_61 ?_
              refine sn_sub [1, 2, 0] rfl ?_
              exact hk6 _
            · refine sn_sub [1, 2, 0] rfl ?_
              exact hk12
    · intro k4 hk4
      refine sn_jn_walk (fun (k : Prop) => k → sn_G LoM w rmX9_readPart Qq sn_noE C 0 0 45 [(0, .ref (w.2.2.1 0)), (1, .int r2)] [] S) ?_ ?_
      · refine sn_iconst hO kc_0 dX9_readPart_45 ?_
        exact hk4 _
      · intro k13 hk13
        refine sn_icmp_ne hO 45 (by decide) dX9_readPart_27 ?_ ?_
        · refine sn_sub [1, 0] rfl ?_
          exact hk13
        · refine sn_aload_n hO 1 rfl dX9_readPart_30 ?_
          refine sn_getJ hO fmX9_229 atM_0 dX9_readPart_31 ?_
          refine sn_ldc2 hO q1809 dX9_readPart_34 ?_
          refine sn_lcmp hO dX9_readPart_37 ?_
          refine sn_if_gt hO 45 (by decide) dX9_readPart_38 ?_ ?_
          · refine sn_sub [1, 0] rfl ?_
            exact hk13
          · refine sn_iconst hO kc_1 dX9_readPart_41 ?_
            refine sn_goto hO 46 (by decide) dX9_readPart_42 ?_
            refine sn_sub [1, 0] rfl ?_
            exact hk4 _
  · refine sn_aload_n hO 0 rfl dX9_readPart_9 ?_
    refine sn_bipush hO kb_31 dX9_readPart_10 ?_
    refine sn_callV hO (c2 := 0) (s2 := 0) [.int 31] cvX9_291 (fun _ => sn_Rv_K atM_0) ctX9_openBracket ⟨Nat.le_of_ble_eq_true rfl, Nat.le_of_ble_eq_true rfl⟩ rfl rfl (Nat.le_of_ble_eq_true rfl) ⟨Nat.le_of_ble_eq_true rfl, Nat.le_of_ble_eq_true rfl, rfl, rfl⟩ dX9_readPart_12 (sn_bV (fun S14 => ?_)) sn_x0
    refine sn_iconst hO kc_1 dX9_readPart_15 ?_
    subst hQq
    exact sn_iret hO rfl dX9_readPart_16
theorem ctX9_readPart {w : sn_W} {S : sn_S} {Q : Int32 → sn_S → Prop} (h : wpX9_readPart S Q) : sn_Ct LoM w yX9_readPart (ws_ yX9_readPart cX9_readPart 3 (some .int)) rmX9_readPart [.ref (w.2.2.1 0)] S (sn_qI Q) sn_noE := sn_Ct_of (LoM_X w) (by decide) (Nat.le_of_ble_eq_true rfl) RX9 rfl (fun C hO => wkX9_readPart hO S Q h)
def rmX9_readPlain : Room := { frames := 5, cells := 0, slots := 0, locals := 106 }
/-- SnailPostModel.readPlain()I -/
def wpX9_readPlain (S : sn_S) (Q : Int32 → sn_S → Prop) : Prop :=
  wpX9_isWord 14836 S (fun (r1 : Int32) => ((r1 = 0 → wpX9_isSign 40 S (fun (r2 : Int32) => ((r2 = 0 → wpX9_readPart S (fun (r3 : Int32) (S4 : sn_S) => Q r3 S4)) ∧ (¬ r2 = 0 → wpX9_openBracket 30 S (fun (S5 : sn_S) => Q 0 S5))))) ∧ (¬ r1 = 0 → wpX9_push 27 0 S (fun (S6 : sn_S) => wpX9_next S6 (fun (S7 : sn_S) => Q 0 S7)))))
theorem wkX9_readPlain {w : sn_W} {C : sn_C} (hO : sn_Ok LoM w C RX9 cX9_readPlain 1 (some .int) [] "readPlain") (S : sn_S) (Q : Int32 → sn_S → Prop) : wpX9_readPlain S Q → sn_G LoM w rmX9_readPlain (sn_qI Q) sn_noE C 0 0 0 [(0, .ref (w.2.2.1 0))] [] S := by
  unfold wpX9_readPlain
  generalize hQq : (sn_qI Q) = Qq
  refine sn_aload_n hO 0 rfl dX9_readPlain_0 ?_
  refine sn_ldc2 hO q1788 dX9_readPlain_1 ?_
  refine sn_callV hO (c2 := 0) (s2 := 0) [.long 14836] cvX9_275 (fun _ => sn_Rv_K atM_0) ctX9_isWord ⟨Nat.le_of_ble_eq_true rfl, Nat.le_of_ble_eq_true rfl⟩ rfl rfl (Nat.le_of_ble_eq_true rfl) ⟨Nat.le_of_ble_eq_true rfl, Nat.le_of_ble_eq_true rfl, rfl, rfl⟩ dX9_readPlain_4 (sn_bIp (fun r1 => ?_)) sn_x0
  refine sn_if_eq hO 23 (by decide) dX9_readPlain_7 ?_ ?_
  · refine sn_aload_n hO 0 rfl dX9_readPlain_23 ?_
    refine sn_bipush hO kb_40 dX9_readPlain_24 ?_
    refine sn_callV hO (c2 := 0) (s2 := 0) [.int 40] cvX9_288 (fun _ => sn_Rv_K atM_0) ctX9_isSign ⟨Nat.le_of_ble_eq_true rfl, Nat.le_of_ble_eq_true rfl⟩ rfl rfl (Nat.le_of_ble_eq_true rfl) ⟨Nat.le_of_ble_eq_true rfl, Nat.le_of_ble_eq_true rfl, rfl, rfl⟩ dX9_readPlain_26 (sn_bIp (fun r2 => ?_)) sn_x0
    refine sn_if_eq hO 40 (by decide) dX9_readPlain_29 ?_ ?_
    · refine sn_aload_n hO 0 rfl dX9_readPlain_40 ?_
      refine sn_callV hO (c2 := 0) (s2 := 0) [] cvX9_306 (fun _ => sn_Rv_K atM_0) ctX9_readPart ⟨Nat.le_of_ble_eq_true rfl, Nat.le_of_ble_eq_true rfl⟩ rfl rfl (Nat.le_of_ble_eq_true rfl) ⟨Nat.le_of_ble_eq_true rfl, Nat.le_of_ble_eq_true rfl, rfl, rfl⟩ dX9_readPlain_41 (sn_bI (fun r3 S4 => ?_)) sn_x0
      subst hQq
      exact sn_iret hO rfl dX9_readPlain_44
    · refine sn_aload_n hO 0 rfl dX9_readPlain_32 ?_
      refine sn_bipush hO kb_30 dX9_readPlain_33 ?_
      refine sn_callV hO (c2 := 0) (s2 := 0) [.int 30] cvX9_291 (fun _ => sn_Rv_K atM_0) ctX9_openBracket ⟨Nat.le_of_ble_eq_true rfl, Nat.le_of_ble_eq_true rfl⟩ rfl rfl (Nat.le_of_ble_eq_true rfl) ⟨Nat.le_of_ble_eq_true rfl, Nat.le_of_ble_eq_true rfl, rfl, rfl⟩ dX9_readPlain_35 (sn_bV (fun S5 => ?_)) sn_x0
      refine sn_iconst hO kc_0 dX9_readPlain_38 ?_
      subst hQq
      exact sn_iret hO rfl dX9_readPlain_39
  · refine sn_aload_n hO 0 rfl dX9_readPlain_10 ?_
    refine sn_bipush hO kb_27 dX9_readPlain_11 ?_
    refine sn_iconst hO kc_0 dX9_readPlain_13 ?_
    refine sn_callV hO (c2 := 0) (s2 := 0) [.int 27, .int 0] cvX9_282 (fun _ => sn_Rv_K atM_0) ctX9_push ⟨Nat.le_of_ble_eq_true rfl, Nat.le_of_ble_eq_true rfl⟩ rfl rfl (Nat.le_of_ble_eq_true rfl) ⟨Nat.le_of_ble_eq_true rfl, Nat.le_of_ble_eq_true rfl, rfl, rfl⟩ dX9_readPlain_14 (sn_bV (fun S6 => ?_)) sn_x0
    refine sn_aload_n hO 0 rfl dX9_readPlain_17 ?_
    refine sn_callV hO (c2 := 0) (s2 := 0) [] cvX9_223 (fun _ => sn_Rv_K atM_0) ctX9_next ⟨Nat.le_of_ble_eq_true rfl, Nat.le_of_ble_eq_true rfl⟩ rfl rfl (Nat.le_of_ble_eq_true rfl) ⟨Nat.le_of_ble_eq_true rfl, Nat.le_of_ble_eq_true rfl, rfl, rfl⟩ dX9_readPlain_18 (sn_bV (fun S7 => ?_)) sn_x0
    refine sn_iconst hO kc_0 dX9_readPlain_21 ?_
    subst hQq
    exact sn_iret hO rfl dX9_readPlain_22
theorem ctX9_readPlain {w : sn_W} {S : sn_S} {Q : Int32 → sn_S → Prop} (h : wpX9_readPlain S Q) : sn_Ct LoM w yX9_readPlain (ws_ yX9_readPlain cX9_readPlain 1 (some .int)) rmX9_readPlain [.ref (w.2.2.1 0)] S (sn_qI Q) sn_noE := sn_Ct_of (LoM_X w) (by decide) (Nat.le_of_ble_eq_true rfl) RX9 rfl (fun C hO => wkX9_readPlain hO S Q h)
def rmX9_binds : Room := { frames := 0, cells := 0, slots := 0, locals := 0 }
/-- SnailPostModel.binds(I)I -/
def wpX9_binds (p1 : Int32) (Q : Int32 → Prop) : Prop :=
  ((p1 < 30 → ((¬ p1 = 29 → ((¬ p1 = 28 → ((¬ p1 = 27 → ((p1 < 24 → ((p1 < 22 → Q 5) ∧ (¬ p1 < 22 → Q 6))) ∧ (¬ p1 < 24 → Q 4))) ∧ (p1 = 27 → Q 3))) ∧ (p1 = 28 → Q 2))) ∧ (p1 = 29 → Q 1))) ∧ (¬ p1 < 30 → Q 0))
theorem wkX9_binds {w : sn_W} {C : sn_C} (hO : sn_Ok LoM w C RX9 cX9_binds 1 (some .int) [] "binds") (p1 : Int32) (S : sn_S) (Q : Int32 → Prop) : wpX9_binds p1 Q → sn_G LoM w rmX9_binds (sn_qI (fun r S1 => S1 = S ∧ Q r)) sn_noE C 0 0 0 [(0, .int p1)] [] S := by
  unfold wpX9_binds
  generalize hQq : (sn_qI (fun r S1 => S1 = S ∧ Q r)) = Qq
  refine sn_iload_n hO 0 rfl dX9_binds_0 ?_
  refine sn_bipush hO kb_30 dX9_binds_1 ?_
  refine sn_icmp_lt hO 10 (by decide) dX9_binds_3 ?_ ?_
  · refine sn_iload_n hO 0 rfl dX9_binds_10 ?_
    refine sn_bipush hO kb_29 dX9_binds_11 ?_
    refine sn_icmp_ne hO 20 (by decide) dX9_binds_13 ?_ ?_
    · refine sn_iload_n hO 0 rfl dX9_binds_20 ?_
      refine sn_bipush hO kb_28 dX9_binds_21 ?_
      refine sn_icmp_ne hO 30 (by decide) dX9_binds_23 ?_ ?_
      · refine sn_iload_n hO 0 rfl dX9_binds_30 ?_
        refine sn_bipush hO kb_27 dX9_binds_31 ?_
        refine sn_icmp_ne hO 40 (by decide) dX9_binds_33 ?_ ?_
        · refine sn_iload_n hO 0 rfl dX9_binds_40 ?_
          refine sn_bipush hO kb_24 dX9_binds_41 ?_
          refine sn_icmp_lt hO 50 (by decide) dX9_binds_43 ?_ ?_
          · refine sn_iload_n hO 0 rfl dX9_binds_50 ?_
            refine sn_bipush hO kb_22 dX9_binds_51 ?_
            refine sn_icmp_lt hO 61 (by decide) dX9_binds_53 ?_ ?_
            · refine sn_iconst hO kc_5 dX9_binds_61 ?_
              subst hQq
              exact fun h => sn_iret hO rfl dX9_binds_62 ⟨rfl, h⟩
            · refine sn_bipush hO kb_6 dX9_binds_56 ?_
              refine sn_goto hO 62 (by decide) dX9_binds_58 ?_
              subst hQq
              exact fun h => sn_iret hO rfl dX9_binds_62 ⟨rfl, h⟩
          · refine sn_iconst hO kc_4 dX9_binds_46 ?_
            refine sn_goto hO 62 (by decide) dX9_binds_47 ?_
            subst hQq
            exact fun h => sn_iret hO rfl dX9_binds_62 ⟨rfl, h⟩
        · refine sn_iconst hO kc_3 dX9_binds_36 ?_
          refine sn_goto hO 62 (by decide) dX9_binds_37 ?_
          subst hQq
          exact fun h => sn_iret hO rfl dX9_binds_62 ⟨rfl, h⟩
      · refine sn_iconst hO kc_2 dX9_binds_26 ?_
        refine sn_goto hO 62 (by decide) dX9_binds_27 ?_
        subst hQq
        exact fun h => sn_iret hO rfl dX9_binds_62 ⟨rfl, h⟩
    · refine sn_iconst hO kc_1 dX9_binds_16 ?_
      refine sn_goto hO 62 (by decide) dX9_binds_17 ?_
      subst hQq
      exact fun h => sn_iret hO rfl dX9_binds_62 ⟨rfl, h⟩
  · refine sn_iconst hO kc_0 dX9_binds_6 ?_
    refine sn_goto hO 62 (by decide) dX9_binds_7 ?_
    subst hQq
    exact fun h => sn_iret hO rfl dX9_binds_62 ⟨rfl, h⟩
theorem ctX9_binds {w : sn_W} {p1 : Int32} {S : sn_S} {Q : Int32 → Prop} (h : wpX9_binds p1 Q) : sn_Ct LoM w yX9_binds (ws_ yX9_binds cX9_binds 1 (some .int)) rmX9_binds [.int p1] S (sn_qI (fun r S1 => S1 = S ∧ Q r)) sn_noE := sn_Ct_of (LoM_X w) (by decide) (Nat.le_of_ble_eq_true rfl) RX9 rfl (fun C hO => wkX9_binds hO p1 S Q h)
def rmX9_settle : Room := { frames := 1, cells := 0, slots := 0, locals := 22 }
/-- SnailPostModel.settle(I)V -/
def wpX9_settle (p1 : Int32) (S : sn_S) (Q : sn_S → Prop) : Prop :=
  sn_lp1 (fun (rc2 : sn_S → Prop) (S1 : sn_S) => (((S1.1 0 23) ≤ 0 → Q S1) ∧ (¬ (S1.1 0 23) ≤ 0 → (vp_in ((S1.1 0 23) - 1) 400 ∧ wpX9_binds (S1.1 9 (((S1.1 0 23) - 1)).toNatClampNeg) (fun (r3 : Int32) => ((r3 < p1 → Q S1) ∧ (¬ r3 < p1 → sn_lt (sn_pI S1 0 23 ((S1.1 0 23) - 1)) (fun S4 => (vp_in (S4.1 0 23) 400 ∧ sn_jn (κ := Prop) ((vp_in (S4.1 0 23) 400 ∧ (vp_in (S4.1 10 ((S4.1 0 23)).toNatClampNeg) 400 ∧ sn_lt (sn_pI S4 8 ((S4.1 10 ((S4.1 0 23)).toNatClampNeg)).toNatClampNeg (S4.1 0 17)) (fun S6 => rc2 S6)))) (fun (k5 : Prop) => (((S4.1 9 ((S4.1 0 23)).toNatClampNeg) = 28 → k5) ∧ (¬ (S4.1 9 ((S4.1 0 23)).toNatClampNeg) = 28 → (vp_in (S4.1 0 23) 400 ∧ ((¬ (S4.1 9 ((S4.1 0 23)).toNatClampNeg) = 29 → (vp_in (S4.1 0 23) 400 ∧ wpX9_emit (S4.1 9 ((S4.1 0 23)).toNatClampNeg) 0 S4 (fun (S7 : sn_S) => rc2 S7))) ∧ ((S4.1 9 ((S4.1 0 23)).toNatClampNeg) = 29 → k5))))))))))))))) S
theorem wkX9_settle {w : sn_W} {C : sn_C} (hO : sn_Ok LoM w C RX9 cX9_settle 2 none [] "settle") (p1 : Int32) (S : sn_S) (Q : sn_S → Prop) : wpX9_settle p1 S Q → sn_G LoM w rmX9_settle (sn_qV Q) sn_noE C 0 0 0 [(0, .ref (w.2.2.1 0)), (1, .int p1)] [] S := by
  unfold wpX9_settle
  generalize hQq : (sn_qV Q) = Qq
  refine sn_lp1_walk (Gd := fun (S1 : sn_S) => sn_G LoM w rmX9_settle Qq sn_noE C 0 0 0 [(0, .ref (w.2.2.1 0)), (1, .int p1)] [] S1) ?_ _
  intro rc2 hrc2 S1
  refine sn_aload_n hO 0 rfl dX9_settle_0 ?_
  refine sn_getI hO fmX9_261 atM_0 dX9_settle_1 ?_
  refine sn_if_le hO 101 (by decide) dX9_settle_4 ?_ ?_
  · subst hQq
    exact sn_vret hO rfl dX9_settle_101
  · refine sn_aload_n hO 0 rfl dX9_settle_7 ?_
    refine sn_getF hO fmX9_39 atM_0 dX9_settle_8 ?_
    refine sn_aload_n hO 0 rfl dX9_settle_11 ?_
    refine sn_getI hO fmX9_261 atM_0 dX9_settle_12 ?_
    refine sn_iconst hO kc_1 dX9_settle_15 ?_
    refine sn_isub hO dX9_settle_16 ?_
    refine sn_iald hO atM_9 rfl dX9_settle_17 ?_
    refine sn_callS hO (c2 := 0) (s2 := 0) [.int (S1.1 9 (((S1.1 0 23) - 1)).toNatClampNeg)] csX9_264 ctX9_binds ⟨Nat.le_of_ble_eq_true rfl, Nat.le_of_ble_eq_true rfl⟩ rfl rfl (Nat.le_of_ble_eq_true rfl) ⟨Nat.le_of_ble_eq_true rfl, Nat.le_of_ble_eq_true rfl, rfl, rfl⟩ dX9_settle_18 (sn_bIp (fun r3 => ?_)) sn_x0
    refine sn_iload_n hO 1 rfl dX9_settle_21 ?_
    refine sn_icmp_lt hO 101 (by decide) dX9_settle_22 ?_ ?_
    · subst hQq
      exact sn_vret hO rfl dX9_settle_101
    · refine sn_aload_n hO 0 rfl dX9_settle_25 ?_
      refine sn_dup hO rfl dX9_settle_26 ?_
      refine sn_getI hO fmX9_261 atM_0 dX9_settle_27 ?_
      refine sn_iconst hO kc_1 dX9_settle_30 ?_
      refine sn_isub hO dX9_settle_31 ?_
      refine sn_putI hO fmX9_261 atM_0 rfl rfl dX9_settle_32 ?_
      refine sn_nmS (fun S4 => ?_)
      refine sn_aload_n hO 0 rfl dX9_settle_35 ?_
      refine sn_getF hO fmX9_39 atM_0 dX9_settle_36 ?_
      refine sn_aload_n hO 0 rfl dX9_settle_39 ?_
      refine sn_getI hO fmX9_261 atM_0 dX9_settle_40 ?_
      refine sn_iald hO atM_9 rfl dX9_settle_43 ?_
      refine sn_bipush hO kb_28 dX9_settle_44 ?_
      refine sn_jn_walk (fun (k : Prop) => k → sn_G LoM w rmX9_settle Qq sn_noE C 0 0 63 [(0, .ref (w.2.2.1 0)), (1, .int p1)] [] S4) ?_ ?_
      · refine sn_aload_n hO 0 rfl dX9_settle_63 ?_
        refine sn_getF hO fmX9_36 atM_0 dX9_settle_64 ?_
        refine sn_aload_n hO 0 rfl dX9_settle_67 ?_
        refine sn_getF hO fmX9_42 atM_0 dX9_settle_68 ?_
        refine sn_aload_n hO 0 rfl dX9_settle_71 ?_
        refine sn_getI hO fmX9_261 atM_0 dX9_settle_72 ?_
        refine sn_iald hO atM_10 rfl dX9_settle_75 ?_
        refine sn_aload_n hO 0 rfl dX9_settle_76 ?_
        refine sn_getI hO fmX9_258 atM_0 dX9_settle_77 ?_
        refine sn_iast hO atM_8 rfl dX9_settle_80 ?_
        refine sn_nmS (fun S6 => ?_)
        refine sn_goto hO 0 (by decide) dX9_settle_81 ?_
        exact hrc2 _
      · intro k5 hk5
        refine sn_icmp_eq hO 63 (by decide) dX9_settle_46 ?_ ?_
        · exact hk5
        · refine sn_aload_n hO 0 rfl dX9_settle_49 ?_
          refine sn_getF hO fmX9_39 atM_0 dX9_settle_50 ?_
          refine sn_aload_n hO 0 rfl dX9_settle_53 ?_
          refine sn_getI hO fmX9_261 atM_0 dX9_settle_54 ?_
          refine sn_iald hO atM_9 rfl dX9_settle_57 ?_
          refine sn_bipush hO kb_29 dX9_settle_58 ?_
          refine sn_icmp_ne hO 84 (by decide) dX9_settle_60 ?_ ?_
          · refine sn_aload_n hO 0 rfl dX9_settle_84 ?_
            refine sn_aload_n hO 0 rfl dX9_settle_85 ?_
            refine sn_getF hO fmX9_39 atM_0 dX9_settle_86 ?_
            refine sn_aload_n hO 0 rfl dX9_settle_89 ?_
            refine sn_getI hO fmX9_261 atM_0 dX9_settle_90 ?_
            refine sn_iald hO atM_9 rfl dX9_settle_93 ?_
            refine sn_iconst hO kc_0 dX9_settle_94 ?_
            refine sn_callV hO (c2 := 0) (s2 := 0) [.int (S4.1 9 ((S4.1 0 23)).toNatClampNeg), .int 0] cvX9_267 (fun _ => sn_Rv_K atM_0) ctX9_emit ⟨Nat.le_of_ble_eq_true rfl, Nat.le_of_ble_eq_true rfl⟩ rfl rfl (Nat.le_of_ble_eq_true rfl) ⟨Nat.le_of_ble_eq_true rfl, Nat.le_of_ble_eq_true rfl, rfl, rfl⟩ dX9_settle_95 (sn_bV (fun S7 => ?_)) sn_x0
            refine sn_goto hO 0 (by decide) dX9_settle_98 ?_
            exact hrc2 _
          · exact hk5
theorem ctX9_settle {w : sn_W} {p1 : Int32} {S : sn_S} {Q : sn_S → Prop} (h : wpX9_settle p1 S Q) : sn_Ct LoM w yX9_settle (ws_ yX9_settle cX9_settle 2 none) rmX9_settle [.ref (w.2.2.1 0), .int p1] S (sn_qV Q) sn_noE := sn_Ct_of (LoM_X w) (by decide) (Nat.le_of_ble_eq_true rfl) RX9 rfl (fun C hO => wkX9_settle hO p1 S Q h)
def rmX9_inner : Room := { frames := 0, cells := 0, slots := 0, locals := 0 }
/-- SnailPostModel.inner()I -/
def wpX9_inner (S : sn_S) (Q : Int32 → Prop) : Prop :=
  sn_lp2 (fun (rc3 : Int32 → Int32 → Prop) (i1 : Int32) (i2 : Int32) => (((S.1 0 23) ≤ i2 → Q i1) ∧ (¬ (S.1 0 23) ≤ i2 → (vp_in i2 400 ∧ sn_jn (fun (v4 : Int32) => rc3 v4 (i2 + 1)) (fun (k5 : Int32 → Prop) => (((S.1 9 (i2).toNatClampNeg) < 30 → k5 i1) ∧ (¬ (S.1 9 (i2).toNatClampNeg) < 30 → (vp_in i2 400 ∧ k5 (S.1 9 (i2).toNatClampNeg))))))))) (-1) 0
theorem wkX9_inner {w : sn_W} {C : sn_C} (hO : sn_Ok LoM w C RX9 cX9_inner 3 (some .int) [] "inner") (S : sn_S) (Q : Int32 → Prop) : wpX9_inner S Q → sn_G LoM w rmX9_inner (sn_qI (fun r S1 => S1 = S ∧ Q r)) sn_noE C 0 0 0 [(0, .ref (w.2.2.1 0))] [] S := by
  unfold wpX9_inner
  generalize hQq : (sn_qI (fun r S1 => S1 = S ∧ Q r)) = Qq
  refine sn_iconst hO kc_m1 dX9_inner_0 ?_
  refine sn_istore_n hO (lv' := [(1, .int (-1)), (0, .ref (w.2.2.1 0))]) (by decide) rfl dX9_inner_1 ?_
  refine sn_iconst hO kc_0 dX9_inner_2 ?_
  refine sn_istore_n hO (lv' := [(2, .int 0), (1, .int (-1)), (0, .ref (w.2.2.1 0))]) (by decide) rfl dX9_inner_3 ?_
  refine sn_sub [2, 1, 0] rfl ?_
  refine sn_lp2_walk (Gd := fun (i1 : Int32) (i2 : Int32) => sn_G LoM w rmX9_inner Qq sn_noE C 0 0 4 [(0, .ref (w.2.2.1 0)), (1, .int i1), (2, .int i2)] [] S) ?_ _ _
  intro rc3 hrc3 i1 i2
  refine sn_iload_n hO 2 rfl dX9_inner_4 ?_
  refine sn_aload_n hO 0 rfl dX9_inner_5 ?_
  refine sn_getI hO fmX9_261 atM_0 dX9_inner_6 ?_
  refine sn_icmp_ge hO 40 (by decide) dX9_inner_9 ?_ ?_
  · refine sn_iload_n hO 1 rfl dX9_inner_40 ?_
    subst hQq
    exact fun h => sn_iret hO rfl dX9_inner_41 ⟨rfl, h⟩
  · refine sn_aload_n hO 0 rfl dX9_inner_12 ?_
    refine sn_getF hO fmX9_39 atM_0 dX9_inner_13 ?_
    refine sn_iload_n hO 2 rfl dX9_inner_16 ?_
    refine sn_iald hO atM_9 rfl dX9_inner_17 ?_
    refine sn_bipush hO kb_30 dX9_inner_18 ?_
    refine sn_jn_walk (fun (k : Int32 → Prop) => ∀ (v4 : Int32), k v4 → sn_G LoM w rmX9_inner Qq sn_noE C 0 0 33 [(0, .ref (w.2.2.1 0)), (2, .int i2)] [.int v4] S) ?_ ?_
    · intro v4
      refine sn_istore_n hO (lv' := [(1, .int v4), (0, .ref (w.2.2.1 0)), (2, .int i2)]) (by decide) rfl dX9_inner_33 ?_
      refine sn_iinc hO (lv' := [(2, .int (i2 + 1)), (1, .int v4), (0, .ref (w.2.2.1 0))]) 2 rfl ki_1 (by decide) rfl dX9_inner_34 ?_
      refine sn_goto hO 4 (by decide) dX9_inner_37 ?_
      refine sn_sub [2, 1, 0] rfl ?_
      exact hrc3 _ _
    · intro k5 hk5
      refine sn_icmp_lt hO 32 (by decide) dX9_inner_20 ?_ ?_
      · refine sn_iload_n hO 1 rfl dX9_inner_32 ?_
        refine sn_sub [0, 2] rfl ?_
        exact hk5 _
      · refine sn_aload_n hO 0 rfl dX9_inner_23 ?_
        refine sn_getF hO fmX9_39 atM_0 dX9_inner_24 ?_
        refine sn_iload_n hO 2 rfl dX9_inner_27 ?_
        refine sn_iald hO atM_9 rfl dX9_inner_28 ?_
        refine sn_goto hO 33 (by decide) dX9_inner_29 ?_
        refine sn_sub [0, 2] rfl ?_
        exact hk5 _
theorem ctX9_inner {w : sn_W} {S : sn_S} {Q : Int32 → Prop} (h : wpX9_inner S Q) : sn_Ct LoM w yX9_inner (ws_ yX9_inner cX9_inner 3 (some .int)) rmX9_inner [.ref (w.2.2.1 0)] S (sn_qI (fun r S1 => S1 = S ∧ Q r)) sn_noE := sn_Ct_of (LoM_X w) (by decide) (Nat.le_of_ble_eq_true rfl) RX9 rfl (fun C hO => wkX9_inner hO S Q h)
def rmX9_isCompared : Room := { frames := 1, cells := 0, slots := 0, locals := 25 }
/-- SnailPostModel.isCompared()Z -/
def wpX9_isCompared (S : sn_S) (Q : Int32 → Prop) : Prop :=
  sn_lt ((S.1 0 23) - 1) (fun x1 => sn_jn (fun (v2 : Int32) => ((v2 < 0 → Q 0) ∧ (¬ v2 < 0 → (vp_in v2 400 ∧ wpX9_in (Int32.toInt64 (S.1 9 (v2).toNatClampNeg)) 24 26 (fun (r4 : Int32) => ((r4 = 0 → Q 0) ∧ (¬ r4 = 0 → Q 1))))))) (fun (k3 : Int32 → Prop) => sn_lp1 (fun (rc6 : Int32 → Prop) (i5 : Int32) => ((i5 < 0 → k3 i5) ∧ (¬ i5 < 0 → (vp_in i5 400 ∧ wpX9_in (Int32.toInt64 (S.1 9 (i5).toNatClampNeg)) 20 23 (fun (r7 : Int32) => ((r7 = 0 → k3 i5) ∧ (¬ r7 = 0 → rc6 (i5 + (-1))))))))) x1))
theorem wkX9_isCompared {w : sn_W} {C : sn_C} (hO : sn_Ok LoM w C RX9 cX9_isCompared 2 (some .boolean) [] "isCompared") (S : sn_S) (Q : Int32 → Prop) : wpX9_isCompared S Q → sn_G LoM w rmX9_isCompared (sn_qI (fun r S1 => S1 = S ∧ Q r)) sn_noE C 0 0 0 [(0, .ref (w.2.2.1 0))] [] S := by
  unfold wpX9_isCompared
  generalize hQq : (sn_qI (fun r S1 => S1 = S ∧ Q r)) = Qq
  refine sn_aload_n hO 0 rfl dX9_isCompared_0 ?_
  refine sn_getI hO fmX9_261 atM_0 dX9_isCompared_1 ?_
  refine sn_iconst hO kc_1 dX9_isCompared_4 ?_
  refine sn_isub hO dX9_isCompared_5 ?_
  refine sn_nmI (fun x1 => ?_)
  refine sn_istore_n hO (lv' := [(1, .int x1), (0, .ref (w.2.2.1 0))]) (by decide) rfl dX9_isCompared_6 ?_
  refine sn_jn_walk (fun (k : Int32 → Prop) => ∀ (v2 : Int32), k v2 → sn_G LoM w rmX9_isCompared Qq sn_noE C 0 0 36 [(0, .ref (w.2.2.1 0)), (1, .int v2)] [] S) ?_ ?_
  · intro v2
    refine sn_iload_n hO 1 rfl dX9_isCompared_36 ?_
    refine sn_if_lt hO 63 (by decide) dX9_isCompared_37 ?_ ?_
    · refine sn_iconst hO kc_0 dX9_isCompared_63 ?_
      subst hQq
      exact fun h => sn_zret hO (ty := .boolean) rfl rfl dX9_isCompared_64 ⟨rfl, h⟩
    · refine sn_aload_n hO 0 rfl dX9_isCompared_40 ?_
      refine sn_getF hO fmX9_39 atM_0 dX9_isCompared_41 ?_
      refine sn_iload_n hO 1 rfl dX9_isCompared_44 ?_
      refine sn_iald hO atM_9 rfl dX9_isCompared_45 ?_
      refine sn_i2l hO dX9_isCompared_46 ?_
      refine sn_ldc2 hO q1448 dX9_isCompared_47 ?_
      refine sn_ldc2 hO q1838 dX9_isCompared_50 ?_
      refine sn_callS hO (c2 := 0) (s2 := 0) [.long (Int32.toInt64 (S.1 9 (v2).toNatClampNeg)), .long 24, .long 26] csX9_160 ctX9_in ⟨Nat.le_of_ble_eq_true rfl, Nat.le_of_ble_eq_true rfl⟩ rfl rfl (Nat.le_of_ble_eq_true rfl) ⟨Nat.le_of_ble_eq_true rfl, Nat.le_of_ble_eq_true rfl, rfl, rfl⟩ dX9_isCompared_53 (sn_bIp (fun r4 => ?_)) sn_x0
      refine sn_if_eq hO 63 (by decide) dX9_isCompared_56 ?_ ?_
      · refine sn_iconst hO kc_0 dX9_isCompared_63 ?_
        subst hQq
        exact fun h => sn_zret hO (ty := .boolean) rfl rfl dX9_isCompared_64 ⟨rfl, h⟩
      · refine sn_iconst hO kc_1 dX9_isCompared_59 ?_
        refine sn_goto hO 64 (by decide) dX9_isCompared_60 ?_
        subst hQq
        exact fun h => sn_zret hO (ty := .boolean) rfl rfl dX9_isCompared_64 ⟨rfl, h⟩
  · intro k3 hk3
    refine sn_sub [1, 0] rfl ?_
    refine sn_lp1_walk (Gd := fun (i5 : Int32) => sn_G LoM w rmX9_isCompared Qq sn_noE C 0 0 7 [(0, .ref (w.2.2.1 0)), (1, .int i5)] [] S) ?_ _
    intro rc6 hrc6 i5
    refine sn_iload_n hO 1 rfl dX9_isCompared_7 ?_
    refine sn_if_lt hO 36 (by decide) dX9_isCompared_8 ?_ ?_
    · exact hk3 _
    · refine sn_aload_n hO 0 rfl dX9_isCompared_11 ?_
      refine sn_getF hO fmX9_39 atM_0 dX9_isCompared_12 ?_
      refine sn_iload_n hO 1 rfl dX9_isCompared_15 ?_
      refine sn_iald hO atM_9 rfl dX9_isCompared_16 ?_
      refine sn_i2l hO dX9_isCompared_17 ?_
      refine sn_ldc2 hO q1719 dX9_isCompared_18 ?_
      refine sn_ldc2 hO q1837 dX9_isCompared_21 ?_
      refine sn_callS hO (c2 := 0) (s2 := 0) [.long (Int32.toInt64 (S.1 9 (i5).toNatClampNeg)), .long 20, .long 23] csX9_160 ctX9_in ⟨Nat.le_of_ble_eq_true rfl, Nat.le_of_ble_eq_true rfl⟩ rfl rfl (Nat.le_of_ble_eq_true rfl) ⟨Nat.le_of_ble_eq_true rfl, Nat.le_of_ble_eq_true rfl, rfl, rfl⟩ dX9_isCompared_24 (sn_bIp (fun r7 => ?_)) sn_x0
      refine sn_if_eq hO 36 (by decide) dX9_isCompared_27 ?_ ?_
      · exact hk3 _
      · refine sn_iinc hO (lv' := [(1, .int (i5 + (-1))), (0, .ref (w.2.2.1 0))]) 1 rfl ki_m1 (by decide) rfl dX9_isCompared_30 ?_
        refine sn_goto hO 7 (by decide) dX9_isCompared_33 ?_
        refine sn_sub [1, 0] rfl ?_
        exact hrc6 _
theorem ctX9_isCompared {w : sn_W} {S : sn_S} {Q : Int32 → Prop} (h : wpX9_isCompared S Q) : sn_Ct LoM w yX9_isCompared (ws_ yX9_isCompared cX9_isCompared 2 (some .boolean)) rmX9_isCompared [.ref (w.2.2.1 0)] S (sn_qI (fun r S1 => S1 = S ∧ Q r)) sn_noE := sn_Ct_of (LoM_X w) (by decide) (Nat.le_of_ble_eq_true rfl) RX9 rfl (fun C hO => wkX9_isCompared hO S Q h)
def rmX9_behindSum : Room := { frames := 3, cells := 0, slots := 0, locals := 61 }
/-- SnailPostModel.behindSum(Z)I -/
def wpX9_behindSum (p1 : Int32) (S : sn_S) (Q : Int32 → sn_S → Prop) : Prop :=
  wpX9_isSign 43 S (fun (r1 : Int32) => sn_jn (fun (v2 : Int32) => ((v2 = (-1) → wpX9_inner S (fun (r4 : Int32) => ((¬ r4 = 31 → sn_jn (κ := Prop) (wpX9_isCompared S (fun (r6 : Int32) => ((r6 = 0 → wpX9_isSign 60 S (fun (r7 : Int32) => sn_jn (fun (v8 : Int32) => sn_jn (fun (v10 : Int32) => wpX9_must v10 S (fun (S12 : sn_S) => ((¬ (S12.1 0 14) = 0 → Q 1 S12) ∧ ((S12.1 0 14) = 0 → wpX9_settle 5 S12 (fun (S13 : sn_S) => wpX9_push v8 0 S13 (fun (S14 : sn_S) => Q 1 S14)))))) (fun (k11 : Int32 → Prop) => sn_jn (κ := Prop) (k11 1) (fun (k15 : Prop) => ((¬ v8 = 26 → k15) ∧ (v8 = 26 → wpX9_isSign 61 S (fun (r16 : Int32) => ((r16 = 0 → k11 0) ∧ (¬ r16 = 0 → k15)))))))) (fun (k9 : Int32 → Prop) => ((r7 = 0 → wpX9_isSign 62 S (fun (r17 : Int32) => ((r17 = 0 → k9 26) ∧ (¬ r17 = 0 → k9 25)))) ∧ (¬ r7 = 0 → k9 24))))) ∧ (¬ r6 = 0 → Q 2 S)))) (fun (k5 : Prop) => ((¬ r4 = (-1) → k5) ∧ (r4 = (-1) → ((¬ p1 = 0 → k5) ∧ (p1 = 0 → Q 4 S)))))) ∧ (r4 = 31 → wpX9_isSign 93 S (fun (r18 : Int32) => wpX9_must r18 S (fun (S19 : sn_S) => ((¬ (S19.1 0 14) = 0 → Q 3 S19) ∧ ((S19.1 0 14) = 0 → wpX9_settle 5 S19 (fun (S20 : sn_S) => sn_lt (sn_pI S20 0 23 ((S20.1 0 23) - 1)) (fun S21 => sn_lt (sn_pI S21 0 24 ((S21.1 0 24) - 1)) (fun S22 => Q 3 S22))))))))))) ∧ (¬ v2 = (-1) → wpX9_binds v2 (fun (r23 : Int32) => wpX9_settle r23 S (fun (S24 : sn_S) => wpX9_push v2 0 S24 (fun (S25 : sn_S) => wpX9_next S25 (fun (S26 : sn_S) => Q 1 S26))))))) (fun (k3 : Int32 → Prop) => ((r1 = 0 → wpX9_isSign 45 S (fun (r27 : Int32) => ((r27 = 0 → wpX9_isSign 42 S (fun (r28 : Int32) => ((r28 = 0 → wpX9_isSign 47 S (fun (r29 : Int32) => ((r29 = 0 → k3 (-1)) ∧ (¬ r29 = 0 → k3 23)))) ∧ (¬ r28 = 0 → k3 22)))) ∧ (¬ r27 = 0 → k3 21)))) ∧ (¬ r1 = 0 → k3 20))))
theorem wkX9_behindSum {w : sn_W} {C : sn_C} (hO : sn_Ok LoM w C RX9 cX9_behindSum 4 (some .int) [] "behindSum") (p1 : Int32) (S : sn_S) (Q : Int32 → sn_S → Prop) : wpX9_behindSum p1 S Q → sn_G LoM w rmX9_behindSum (sn_qI Q) sn_noE C 0 0 0 [(0, .ref (w.2.2.1 0)), (1, .int p1)] [] S := by
  unfold wpX9_behindSum
  generalize hQq : (sn_qI Q) = Qq
  refine sn_aload_n hO 0 rfl dX9_behindSum_0 ?_
  refine sn_bipush hO kb_43 dX9_behindSum_1 ?_
  refine sn_callV hO (c2 := 0) (s2 := 0) [.int 43] cvX9_288 (fun _ => sn_Rv_K atM_0) ctX9_isSign ⟨Nat.le_of_ble_eq_true rfl, Nat.le_of_ble_eq_true rfl⟩ rfl rfl (Nat.le_of_ble_eq_true rfl) ⟨Nat.le_of_ble_eq_true rfl, Nat.le_of_ble_eq_true rfl, rfl, rfl⟩ dX9_behindSum_3 (sn_bIp (fun r1 => ?_)) sn_x0
  refine sn_jn_walk (fun (k : Int32 → Prop) => ∀ (v2 : Int32), k v2 → sn_G LoM w rmX9_behindSum Qq sn_noE C 0 0 57 [(0, .ref (w.2.2.1 0)), (1, .int p1)] [.int v2] S) ?_ ?_
  · intro v2
    refine sn_istore_n hO (lv' := [(2, .int v2), (0, .ref (w.2.2.1 0)), (1, .int p1)]) (by decide) rfl dX9_behindSum_57 ?_
    refine sn_iload_n hO 0 rfl dX9_behindSum_58 ?_
    refine sn_iconst hO kc_m1 dX9_behindSum_59 ?_
    refine sn_icmp_eq hO 83 (by decide) dX9_behindSum_60 ?_ ?_
    · refine sn_aload_n hO 1 rfl dX9_behindSum_83 ?_
      refine sn_callV hO (c2 := 0) (s2 := 0) [] cvX9_312 (fun _ => sn_Rv_K atM_0) ctX9_inner ⟨Nat.le_of_ble_eq_true rfl, Nat.le_of_ble_eq_true rfl⟩ rfl rfl (Nat.le_of_ble_eq_true rfl) ⟨Nat.le_of_ble_eq_true rfl, Nat.le_of_ble_eq_true rfl, rfl, rfl⟩ dX9_behindSum_84 (sn_bIp (fun r4 => ?_)) sn_x0
      refine sn_istore_n hO (lv' := [(3, .int r4), (2, .int v2), (0, .ref (w.2.2.1 0)), (1, .int p1)]) (by decide) rfl dX9_behindSum_87 ?_
      refine sn_iload_n hO 0 rfl dX9_behindSum_88 ?_
      refine sn_bipush hO kb_31 dX9_behindSum_89 ?_
      refine sn_icmp_ne hO 138 (by decide) dX9_behindSum_91 ?_ ?_
      · refine sn_iload_n hO 0 rfl dX9_behindSum_138 ?_
        refine sn_iconst hO kc_m1 dX9_behindSum_139 ?_
        refine sn_jn_walk (fun (k : Prop) => k → sn_G LoM w rmX9_behindSum Qq sn_noE C 0 0 149 [(0, .ref (w.2.2.1 0))] [] S) ?_ ?_
        · refine sn_aload_n hO 0 rfl dX9_behindSum_149 ?_
          refine sn_callV hO (c2 := 0) (s2 := 0) [] cvX9_315 (fun _ => sn_Rv_K atM_0) ctX9_isCompared ⟨Nat.le_of_ble_eq_true rfl, Nat.le_of_ble_eq_true rfl⟩ rfl rfl (Nat.le_of_ble_eq_true rfl) ⟨Nat.le_of_ble_eq_true rfl, Nat.le_of_ble_eq_true rfl, rfl, rfl⟩ dX9_behindSum_150 (sn_bIp (fun r6 => ?_)) sn_x0
          refine sn_if_eq hO 158 (by decide) dX9_behindSum_153 ?_ ?_
          · refine sn_aload_n hO 0 rfl dX9_behindSum_158 ?_
            refine sn_bipush hO kb_60 dX9_behindSum_159 ?_
            refine sn_callV hO (c2 := 0) (s2 := 0) [.int 60] cvX9_288 (fun _ => sn_Rv_K atM_0) ctX9_isSign ⟨Nat.le_of_ble_eq_true rfl, Nat.le_of_ble_eq_true rfl⟩ rfl rfl (Nat.le_of_ble_eq_true rfl) ⟨Nat.le_of_ble_eq_true rfl, Nat.le_of_ble_eq_true rfl, rfl, rfl⟩ dX9_behindSum_161 (sn_bIp (fun r7 => ?_)) sn_x0
            refine sn_jn_walk (fun (k : Int32 → Prop) => ∀ (v8 : Int32), k v8 → sn_G LoM w rmX9_behindSum Qq sn_noE C 0 0 188 [(0, .ref (w.2.2.1 0))] [.int v8] S) ?_ ?_
            · intro v8
              refine sn_istore_n hO (lv' := [(2, .int v8), (0, .ref (w.2.2.1 0))]) (by decide) rfl dX9_behindSum_188 ?_
              refine sn_aload_n hO 1 rfl dX9_behindSum_189 ?_
              refine sn_iload_n hO 0 rfl dX9_behindSum_190 ?_
              refine sn_bipush hO kb_26 dX9_behindSum_191 ?_
              refine sn_jn_walk (fun (k : Int32 → Prop) => ∀ (v10 : Int32), k v10 → sn_G LoM w rmX9_behindSum Qq sn_noE C 0 0 210 [(0, .ref (w.2.2.1 0)), (2, .int v8)] [.int v10, .ref (w.2.2.1 0)] S) ?_ ?_
              · intro v10
                refine sn_callV hO (c2 := 0) (s2 := 0) [.int v10] cvX9_254 (fun _ => sn_Rv_K atM_0) ctX9_must ⟨Nat.le_of_ble_eq_true rfl, Nat.le_of_ble_eq_true rfl⟩ rfl rfl (Nat.le_of_ble_eq_true rfl) ⟨Nat.le_of_ble_eq_true rfl, Nat.le_of_ble_eq_true rfl, rfl, rfl⟩ dX9_behindSum_210 (sn_bV (fun S12 => ?_)) sn_x0
                refine sn_aload_n hO 0 rfl dX9_behindSum_213 ?_
                refine sn_getI hO fmX9_219 atM_0 dX9_behindSum_214 ?_
                refine sn_if_ne hO 231 (by decide) dX9_behindSum_217 ?_ ?_
                · refine sn_iconst hO kc_1 dX9_behindSum_231 ?_
                  subst hQq
                  exact sn_iret hO rfl dX9_behindSum_232
                · refine sn_aload_n hO 0 rfl dX9_behindSum_220 ?_
                  refine sn_iconst hO kc_5 dX9_behindSum_221 ?_
                  refine sn_callV hO (c2 := 0) (s2 := 0) [.int 5] cvX9_309 (fun _ => sn_Rv_K atM_0) ctX9_settle ⟨Nat.le_of_ble_eq_true rfl, Nat.le_of_ble_eq_true rfl⟩ rfl rfl (Nat.le_of_ble_eq_true rfl) ⟨Nat.le_of_ble_eq_true rfl, Nat.le_of_ble_eq_true rfl, rfl, rfl⟩ dX9_behindSum_222 (sn_bV (fun S13 => ?_)) sn_x0
                  refine sn_aload_n hO 0 rfl dX9_behindSum_225 ?_
                  refine sn_iload_n hO 1 rfl dX9_behindSum_226 ?_
                  refine sn_iconst hO kc_0 dX9_behindSum_227 ?_
                  refine sn_callV hO (c2 := 0) (s2 := 0) [.int v8, .int 0] cvX9_282 (fun _ => sn_Rv_K atM_0) ctX9_push ⟨Nat.le_of_ble_eq_true rfl, Nat.le_of_ble_eq_true rfl⟩ rfl rfl (Nat.le_of_ble_eq_true rfl) ⟨Nat.le_of_ble_eq_true rfl, Nat.le_of_ble_eq_true rfl, rfl, rfl⟩ dX9_behindSum_228 (sn_bV (fun S14 => ?_)) sn_x0
                  refine sn_iconst hO kc_1 dX9_behindSum_231 ?_
                  subst hQq
                  exact sn_iret hO rfl dX9_behindSum_232
              · intro k11 hk11
                refine sn_jn_walk (fun (k : Prop) => k → sn_G LoM w rmX9_behindSum Qq sn_noE C 0 0 205 [(0, .ref (w.2.2.1 0)), (2, .int v8)] [.ref (w.2.2.1 0)] S) ?_ ?_
                · refine sn_iconst hO kc_1 dX9_behindSum_205 ?_
                  refine sn_goto hO 210 (by decide) dX9_behindSum_206 ?_
                  exact hk11 _
                · intro k15 hk15
                  refine sn_icmp_ne hO 205 (by decide) dX9_behindSum_193 ?_ ?_
                  · refine sn_sub [1, 0] rfl ?_
                    exact hk15
                  · refine sn_aload_n hO 1 rfl dX9_behindSum_196 ?_
                    refine sn_bipush hO kb_61 dX9_behindSum_197 ?_
                    refine sn_callV hO (c2 := 0) (s2 := 0) [.int 61] cvX9_288 (fun _ => sn_Rv_K atM_0) ctX9_isSign ⟨Nat.le_of_ble_eq_true rfl, Nat.le_of_ble_eq_true rfl⟩ rfl rfl (Nat.le_of_ble_eq_true rfl) ⟨Nat.le_of_ble_eq_true rfl, Nat.le_of_ble_eq_true rfl, rfl, rfl⟩ dX9_behindSum_199 (sn_bIp (fun r16 => ?_)) sn_x0
                    refine sn_if_eq hO 209 (by decide) dX9_behindSum_202 ?_ ?_
                    · refine sn_iconst hO kc_0 dX9_behindSum_209 ?_
                      refine sn_sub [1, 0] rfl ?_
                      exact hk11 _
                    · refine sn_sub [1, 0] rfl ?_
                      exact hk15
            · intro k9 hk9
              refine sn_if_eq hO 172 (by decide) dX9_behindSum_164 ?_ ?_
              · refine sn_aload_n hO 0 rfl dX9_behindSum_172 ?_
                refine sn_bipush hO kb_62 dX9_behindSum_173 ?_
                refine sn_callV hO (c2 := 0) (s2 := 0) [.int 62] cvX9_288 (fun _ => sn_Rv_K atM_0) ctX9_isSign ⟨Nat.le_of_ble_eq_true rfl, Nat.le_of_ble_eq_true rfl⟩ rfl rfl (Nat.le_of_ble_eq_true rfl) ⟨Nat.le_of_ble_eq_true rfl, Nat.le_of_ble_eq_true rfl, rfl, rfl⟩ dX9_behindSum_175 (sn_bIp (fun r17 => ?_)) sn_x0
                refine sn_if_eq hO 186 (by decide) dX9_behindSum_178 ?_ ?_
                · refine sn_bipush hO kb_26 dX9_behindSum_186 ?_
                  exact hk9 _
                · refine sn_bipush hO kb_25 dX9_behindSum_181 ?_
                  refine sn_goto hO 188 (by decide) dX9_behindSum_183 ?_
                  exact hk9 _
              · refine sn_bipush hO kb_24 dX9_behindSum_167 ?_
                refine sn_goto hO 188 (by decide) dX9_behindSum_169 ?_
                exact hk9 _
          · refine sn_iconst hO kc_2 dX9_behindSum_156 ?_
            subst hQq
            exact sn_iret hO rfl dX9_behindSum_157
        · intro k5 hk5
          refine sn_icmp_ne hO 149 (by decide) dX9_behindSum_140 ?_ ?_
          · refine sn_sub [2] rfl ?_
            exact hk5
          · refine sn_iload_n hO 3 rfl dX9_behindSum_143 ?_
            refine sn_if_ne hO 149 (by decide) dX9_behindSum_144 ?_ ?_
            · refine sn_sub [2] rfl ?_
              exact hk5
            · refine sn_iconst hO kc_4 dX9_behindSum_147 ?_
              subst hQq
              exact sn_iret hO rfl dX9_behindSum_148
      · refine sn_aload_n hO 2 rfl dX9_behindSum_94 ?_
        refine sn_aload_n hO 2 rfl dX9_behindSum_95 ?_
        refine sn_bipush hO kb_93 dX9_behindSum_96 ?_
        refine sn_callV hO (c2 := 0) (s2 := 0) [.int 93] cvX9_288 (fun _ => sn_Rv_K atM_0) ctX9_isSign ⟨Nat.le_of_ble_eq_true rfl, Nat.le_of_ble_eq_true rfl⟩ rfl rfl (Nat.le_of_ble_eq_true rfl) ⟨Nat.le_of_ble_eq_true rfl, Nat.le_of_ble_eq_true rfl, rfl, rfl⟩ dX9_behindSum_98 (sn_bIp (fun r18 => ?_)) sn_x0
        refine sn_callV hO (c2 := 0) (s2 := 0) [.int r18] cvX9_254 (fun _ => sn_Rv_K atM_0) ctX9_must ⟨Nat.le_of_ble_eq_true rfl, Nat.le_of_ble_eq_true rfl⟩ rfl rfl (Nat.le_of_ble_eq_true rfl) ⟨Nat.le_of_ble_eq_true rfl, Nat.le_of_ble_eq_true rfl, rfl, rfl⟩ dX9_behindSum_101 (sn_bV (fun S19 => ?_)) sn_x0
        refine sn_aload_n hO 2 rfl dX9_behindSum_104 ?_
        refine sn_getI hO fmX9_219 atM_0 dX9_behindSum_105 ?_
        refine sn_if_ne hO 136 (by decide) dX9_behindSum_108 ?_ ?_
        · refine sn_iconst hO kc_3 dX9_behindSum_136 ?_
          subst hQq
          exact sn_iret hO rfl dX9_behindSum_137
        · refine sn_aload_n hO 2 rfl dX9_behindSum_111 ?_
          refine sn_iconst hO kc_5 dX9_behindSum_112 ?_
          refine sn_callV hO (c2 := 0) (s2 := 0) [.int 5] cvX9_309 (fun _ => sn_Rv_K atM_0) ctX9_settle ⟨Nat.le_of_ble_eq_true rfl, Nat.le_of_ble_eq_true rfl⟩ rfl rfl (Nat.le_of_ble_eq_true rfl) ⟨Nat.le_of_ble_eq_true rfl, Nat.le_of_ble_eq_true rfl, rfl, rfl⟩ dX9_behindSum_113 (sn_bV (fun S20 => ?_)) sn_x0
          refine sn_aload_n hO 2 rfl dX9_behindSum_116 ?_
          refine sn_dup hO rfl dX9_behindSum_117 ?_
          refine sn_getI hO fmX9_261 atM_0 dX9_behindSum_118 ?_
          refine sn_iconst hO kc_1 dX9_behindSum_121 ?_
          refine sn_isub hO dX9_behindSum_122 ?_
          refine sn_putI hO fmX9_261 atM_0 rfl rfl dX9_behindSum_123 ?_
          refine sn_nmS (fun S21 => ?_)
          refine sn_aload_n hO 2 rfl dX9_behindSum_126 ?_
          refine sn_dup hO rfl dX9_behindSum_127 ?_
          refine sn_getI hO fmX9_279 atM_0 dX9_behindSum_128 ?_
          refine sn_iconst hO kc_1 dX9_behindSum_131 ?_
          refine sn_isub hO dX9_behindSum_132 ?_
          refine sn_putI hO fmX9_279 atM_0 rfl rfl dX9_behindSum_133 ?_
          refine sn_nmS (fun S22 => ?_)
          refine sn_iconst hO kc_3 dX9_behindSum_136 ?_
          subst hQq
          exact sn_iret hO rfl dX9_behindSum_137
    · refine sn_aload_n hO 1 rfl dX9_behindSum_63 ?_
      refine sn_iload_n hO 0 rfl dX9_behindSum_64 ?_
      refine sn_callS hO (c2 := 0) (s2 := 0) [.int v2] csX9_264 ctX9_binds ⟨Nat.le_of_ble_eq_true rfl, Nat.le_of_ble_eq_true rfl⟩ rfl rfl (Nat.le_of_ble_eq_true rfl) ⟨Nat.le_of_ble_eq_true rfl, Nat.le_of_ble_eq_true rfl, rfl, rfl⟩ dX9_behindSum_65 (sn_bIp (fun r23 => ?_)) sn_x0
      refine sn_callV hO (c2 := 0) (s2 := 0) [.int r23] cvX9_309 (fun _ => sn_Rv_K atM_0) ctX9_settle ⟨Nat.le_of_ble_eq_true rfl, Nat.le_of_ble_eq_true rfl⟩ rfl rfl (Nat.le_of_ble_eq_true rfl) ⟨Nat.le_of_ble_eq_true rfl, Nat.le_of_ble_eq_true rfl, rfl, rfl⟩ dX9_behindSum_68 (sn_bV (fun S24 => ?_)) sn_x0
      refine sn_aload_n hO 1 rfl dX9_behindSum_71 ?_
      refine sn_iload_n hO 0 rfl dX9_behindSum_72 ?_
      refine sn_iconst hO kc_0 dX9_behindSum_73 ?_
      refine sn_callV hO (c2 := 0) (s2 := 0) [.int v2, .int 0] cvX9_282 (fun _ => sn_Rv_K atM_0) ctX9_push ⟨Nat.le_of_ble_eq_true rfl, Nat.le_of_ble_eq_true rfl⟩ rfl rfl (Nat.le_of_ble_eq_true rfl) ⟨Nat.le_of_ble_eq_true rfl, Nat.le_of_ble_eq_true rfl, rfl, rfl⟩ dX9_behindSum_74 (sn_bV (fun S25 => ?_)) sn_x0
      refine sn_aload_n hO 1 rfl dX9_behindSum_77 ?_
      refine sn_callV hO (c2 := 0) (s2 := 0) [] cvX9_223 (fun _ => sn_Rv_K atM_0) ctX9_next ⟨Nat.le_of_ble_eq_true rfl, Nat.le_of_ble_eq_true rfl⟩ rfl rfl (Nat.le_of_ble_eq_true rfl) ⟨Nat.le_of_ble_eq_true rfl, Nat.le_of_ble_eq_true rfl, rfl, rfl⟩ dX9_behindSum_78 (sn_bV (fun S26 => ?_)) sn_x0
      refine sn_iconst hO kc_1 dX9_behindSum_81 ?_
      subst hQq
      exact sn_iret hO rfl dX9_behindSum_82
  · intro k3 hk3
    refine sn_if_eq hO 14 (by decide) dX9_behindSum_6 ?_ ?_
    · refine sn_aload_n hO 0 rfl dX9_behindSum_14 ?_
      refine sn_bipush hO kb_45 dX9_behindSum_15 ?_
      refine sn_callV hO (c2 := 0) (s2 := 0) [.int 45] cvX9_288 (fun _ => sn_Rv_K atM_0) ctX9_isSign ⟨Nat.le_of_ble_eq_true rfl, Nat.le_of_ble_eq_true rfl⟩ rfl rfl (Nat.le_of_ble_eq_true rfl) ⟨Nat.le_of_ble_eq_true rfl, Nat.le_of_ble_eq_true rfl, rfl, rfl⟩ dX9_behindSum_17 (sn_bIp (fun r27 => ?_)) sn_x0
      refine sn_if_eq hO 28 (by decide) dX9_behindSum_20 ?_ ?_
      · refine sn_aload_n hO 0 rfl dX9_behindSum_28 ?_
        refine sn_bipush hO kb_42 dX9_behindSum_29 ?_
        refine sn_callV hO (c2 := 0) (s2 := 0) [.int 42] cvX9_288 (fun _ => sn_Rv_K atM_0) ctX9_isSign ⟨Nat.le_of_ble_eq_true rfl, Nat.le_of_ble_eq_true rfl⟩ rfl rfl (Nat.le_of_ble_eq_true rfl) ⟨Nat.le_of_ble_eq_true rfl, Nat.le_of_ble_eq_true rfl, rfl, rfl⟩ dX9_behindSum_31 (sn_bIp (fun r28 => ?_)) sn_x0
        refine sn_if_eq hO 42 (by decide) dX9_behindSum_34 ?_ ?_
        · refine sn_aload_n hO 0 rfl dX9_behindSum_42 ?_
          refine sn_bipush hO kb_47 dX9_behindSum_43 ?_
          refine sn_callV hO (c2 := 0) (s2 := 0) [.int 47] cvX9_288 (fun _ => sn_Rv_K atM_0) ctX9_isSign ⟨Nat.le_of_ble_eq_true rfl, Nat.le_of_ble_eq_true rfl⟩ rfl rfl (Nat.le_of_ble_eq_true rfl) ⟨Nat.le_of_ble_eq_true rfl, Nat.le_of_ble_eq_true rfl, rfl, rfl⟩ dX9_behindSum_45 (sn_bIp (fun r29 => ?_)) sn_x0
          refine sn_if_eq hO 56 (by decide) dX9_behindSum_48 ?_ ?_
          · refine sn_iconst hO kc_m1 dX9_behindSum_56 ?_
            exact hk3 _
          · refine sn_bipush hO kb_23 dX9_behindSum_51 ?_
            refine sn_goto hO 57 (by decide) dX9_behindSum_53 ?_
            exact hk3 _
        · refine sn_bipush hO kb_22 dX9_behindSum_37 ?_
          refine sn_goto hO 57 (by decide) dX9_behindSum_39 ?_
          exact hk3 _
      · refine sn_bipush hO kb_21 dX9_behindSum_23 ?_
        refine sn_goto hO 57 (by decide) dX9_behindSum_25 ?_
        exact hk3 _
    · refine sn_bipush hO kb_20 dX9_behindSum_9 ?_
      refine sn_goto hO 57 (by decide) dX9_behindSum_11 ?_
      exact hk3 _
theorem ctX9_behindSum {w : sn_W} {p1 : Int32} {S : sn_S} {Q : Int32 → sn_S → Prop} (h : wpX9_behindSum p1 S Q) : sn_Ct LoM w yX9_behindSum (ws_ yX9_behindSum cX9_behindSum 4 (some .int)) rmX9_behindSum [.ref (w.2.2.1 0), .int p1] S (sn_qI Q) sn_noE := sn_Ct_of (LoM_X w) (by decide) (Nat.le_of_ble_eq_true rfl) RX9 rfl (fun C hO => wkX9_behindSum hO p1 S Q h)
def rmX9_behindTest : Room := { frames := 3, cells := 0, slots := 0, locals := 61 }
/-- SnailPostModel.behindTest()I -/
def wpX9_behindTest (S : sn_S) (Q : Int32 → sn_S → Prop) : Prop :=
  wpX9_isWord 1476 S (fun (r1 : Int32) => sn_jn (κ := Prop) (sn_jn (fun (v3 : Int32) => wpX9_settle v3 S (fun (S5 : sn_S) => sn_jn (fun (v6 : Int32) => wpX9_push v6 (S5.1 0 17) S5 (fun (S8 : sn_S) => sn_jn (fun (v9 : Int32) => wpX9_emit v9 0 S8 (fun (S11 : sn_S) => wpX9_next S11 (fun (S12 : sn_S) => Q 0 S12))) (fun (k10 : Int32 → Prop) => ((r1 = 0 → k10 29) ∧ (¬ r1 = 0 → k10 28))))) (fun (k7 : Int32 → Prop) => ((r1 = 0 → k7 29) ∧ (¬ r1 = 0 → k7 28))))) (fun (k4 : Int32 → Prop) => ((r1 = 0 → k4 1) ∧ (¬ r1 = 0 → k4 2)))) (fun (k2 : Prop) => ((¬ r1 = 0 → k2) ∧ (r1 = 0 → wpX9_isWord 498 S (fun (r13 : Int32) => ((r13 = 0 → wpX9_inner S (fun (r14 : Int32) => ((¬ r14 = (-1) → wpX9_isSign 41 S (fun (r15 : Int32) => wpX9_must r15 S (fun (S16 : sn_S) => ((¬ (S16.1 0 14) = 0 → Q 2 S16) ∧ ((S16.1 0 14) = 0 → wpX9_settle 1 S16 (fun (S17 : sn_S) => sn_lt (sn_pI S17 0 23 ((S17.1 0 23) - 1)) (fun S18 => sn_lt (sn_pI S18 0 24 ((S18.1 0 24) - 1)) (fun S19 => Q 2 S19)))))))) ∧ (r14 = (-1) → Q 4 S)))) ∧ (¬ r13 = 0 → k2)))))))
theorem wkX9_behindTest {w : sn_W} {C : sn_C} (hO : sn_Ok LoM w C RX9 cX9_behindTest 2 (some .int) [] "behindTest") (S : sn_S) (Q : Int32 → sn_S → Prop) : wpX9_behindTest S Q → sn_G LoM w rmX9_behindTest (sn_qI Q) sn_noE C 0 0 0 [(0, .ref (w.2.2.1 0))] [] S := by
  unfold wpX9_behindTest
  generalize hQq : (sn_qI Q) = Qq
  refine sn_aload_n hO 0 rfl dX9_behindTest_0 ?_
  refine sn_ldc2 hO q1843 dX9_behindTest_1 ?_
  refine sn_callV hO (c2 := 0) (s2 := 0) [.long 1476] cvX9_275 (fun _ => sn_Rv_K atM_0) ctX9_isWord ⟨Nat.le_of_ble_eq_true rfl, Nat.le_of_ble_eq_true rfl⟩ rfl rfl (Nat.le_of_ble_eq_true rfl) ⟨Nat.le_of_ble_eq_true rfl, Nat.le_of_ble_eq_true rfl, rfl, rfl⟩ dX9_behindTest_4 (sn_bIp (fun r1 => ?_)) sn_x0
  refine sn_istore_n hO (lv' := [(1, .int r1), (0, .ref (w.2.2.1 0))]) (by decide) rfl dX9_behindTest_7 ?_
  refine sn_iload_n hO 0 rfl dX9_behindTest_8 ?_
  refine sn_jn_walk (fun (k : Prop) => k → sn_G LoM w rmX9_behindTest Qq sn_noE C 0 0 22 [(0, .ref (w.2.2.1 0)), (1, .int r1)] [] S) ?_ ?_
  · refine sn_aload_n hO 0 rfl dX9_behindTest_22 ?_
    refine sn_iload_n hO 1 rfl dX9_behindTest_23 ?_
    refine sn_jn_walk (fun (k : Int32 → Prop) => ∀ (v3 : Int32), k v3 → sn_G LoM w rmX9_behindTest Qq sn_noE C 0 0 32 [(0, .ref (w.2.2.1 0)), (1, .int r1)] [.int v3, .ref (w.2.2.1 0)] S) ?_ ?_
    · intro v3
      refine sn_callV hO (c2 := 0) (s2 := 0) [.int v3] cvX9_309 (fun _ => sn_Rv_K atM_0) ctX9_settle ⟨Nat.le_of_ble_eq_true rfl, Nat.le_of_ble_eq_true rfl⟩ rfl rfl (Nat.le_of_ble_eq_true rfl) ⟨Nat.le_of_ble_eq_true rfl, Nat.le_of_ble_eq_true rfl, rfl, rfl⟩ dX9_behindTest_32 (sn_bV (fun S5 => ?_)) sn_x0
      refine sn_aload_n hO 0 rfl dX9_behindTest_35 ?_
      refine sn_iload_n hO 1 rfl dX9_behindTest_36 ?_
      refine sn_jn_walk (fun (k : Int32 → Prop) => ∀ (v6 : Int32), k v6 → sn_G LoM w rmX9_behindTest Qq sn_noE C 0 0 47 [(0, .ref (w.2.2.1 0)), (1, .int r1)] [.int v6, .ref (w.2.2.1 0)] S5) ?_ ?_
      · intro v6
        refine sn_aload_n hO 0 rfl dX9_behindTest_47 ?_
        refine sn_getI hO fmX9_258 atM_0 dX9_behindTest_48 ?_
        refine sn_callV hO (c2 := 0) (s2 := 0) [.int v6, .int (S5.1 0 17)] cvX9_282 (fun _ => sn_Rv_K atM_0) ctX9_push ⟨Nat.le_of_ble_eq_true rfl, Nat.le_of_ble_eq_true rfl⟩ rfl rfl (Nat.le_of_ble_eq_true rfl) ⟨Nat.le_of_ble_eq_true rfl, Nat.le_of_ble_eq_true rfl, rfl, rfl⟩ dX9_behindTest_51 (sn_bV (fun S8 => ?_)) sn_x0
        refine sn_aload_n hO 0 rfl dX9_behindTest_54 ?_
        refine sn_iload_n hO 1 rfl dX9_behindTest_55 ?_
        refine sn_jn_walk (fun (k : Int32 → Prop) => ∀ (v9 : Int32), k v9 → sn_G LoM w rmX9_behindTest Qq sn_noE C 0 0 66 [(0, .ref (w.2.2.1 0))] [.int v9, .ref (w.2.2.1 0)] S8) ?_ ?_
        · intro v9
          refine sn_iconst hO kc_0 dX9_behindTest_66 ?_
          refine sn_callV hO (c2 := 0) (s2 := 0) [.int v9, .int 0] cvX9_267 (fun _ => sn_Rv_K atM_0) ctX9_emit ⟨Nat.le_of_ble_eq_true rfl, Nat.le_of_ble_eq_true rfl⟩ rfl rfl (Nat.le_of_ble_eq_true rfl) ⟨Nat.le_of_ble_eq_true rfl, Nat.le_of_ble_eq_true rfl, rfl, rfl⟩ dX9_behindTest_67 (sn_bV (fun S11 => ?_)) sn_x0
          refine sn_aload_n hO 0 rfl dX9_behindTest_70 ?_
          refine sn_callV hO (c2 := 0) (s2 := 0) [] cvX9_223 (fun _ => sn_Rv_K atM_0) ctX9_next ⟨Nat.le_of_ble_eq_true rfl, Nat.le_of_ble_eq_true rfl⟩ rfl rfl (Nat.le_of_ble_eq_true rfl) ⟨Nat.le_of_ble_eq_true rfl, Nat.le_of_ble_eq_true rfl, rfl, rfl⟩ dX9_behindTest_71 (sn_bV (fun S12 => ?_)) sn_x0
          refine sn_iconst hO kc_0 dX9_behindTest_74 ?_
          subst hQq
          exact sn_iret hO rfl dX9_behindTest_75
        · intro k10 hk10
          refine sn_if_eq hO 64 (by decide) dX9_behindTest_56 ?_ ?_
          · refine sn_bipush hO kb_29 dX9_behindTest_64 ?_
            refine sn_sub [0] rfl ?_
            exact hk10 _
          · refine sn_bipush hO kb_28 dX9_behindTest_59 ?_
            refine sn_goto hO 66 (by decide) dX9_behindTest_61 ?_
            refine sn_sub [0] rfl ?_
            exact hk10 _
      · intro k7 hk7
        refine sn_if_eq hO 45 (by decide) dX9_behindTest_37 ?_ ?_
        · refine sn_bipush hO kb_29 dX9_behindTest_45 ?_
          exact hk7 _
        · refine sn_bipush hO kb_28 dX9_behindTest_40 ?_
          refine sn_goto hO 47 (by decide) dX9_behindTest_42 ?_
          exact hk7 _
    · intro k4 hk4
      refine sn_if_eq hO 31 (by decide) dX9_behindTest_24 ?_ ?_
      · refine sn_iconst hO kc_1 dX9_behindTest_31 ?_
        exact hk4 _
      · refine sn_iconst hO kc_2 dX9_behindTest_27 ?_
        refine sn_goto hO 32 (by decide) dX9_behindTest_28 ?_
        exact hk4 _
  · intro k2 hk2
    refine sn_if_ne hO 22 (by decide) dX9_behindTest_9 ?_ ?_
    · refine sn_sub [1, 0] rfl ?_
      exact hk2
    · refine sn_aload_n hO 1 rfl dX9_behindTest_12 ?_
      refine sn_ldc2 hO q1844 dX9_behindTest_13 ?_
      refine sn_callV hO (c2 := 0) (s2 := 0) [.long 498] cvX9_275 (fun _ => sn_Rv_K atM_0) ctX9_isWord ⟨Nat.le_of_ble_eq_true rfl, Nat.le_of_ble_eq_true rfl⟩ rfl rfl (Nat.le_of_ble_eq_true rfl) ⟨Nat.le_of_ble_eq_true rfl, Nat.le_of_ble_eq_true rfl, rfl, rfl⟩ dX9_behindTest_16 (sn_bIp (fun r13 => ?_)) sn_x0
      refine sn_if_eq hO 76 (by decide) dX9_behindTest_19 ?_ ?_
      · refine sn_aload_n hO 1 rfl dX9_behindTest_76 ?_
        refine sn_callV hO (c2 := 0) (s2 := 0) [] cvX9_312 (fun _ => sn_Rv_K atM_0) ctX9_inner ⟨Nat.le_of_ble_eq_true rfl, Nat.le_of_ble_eq_true rfl⟩ rfl rfl (Nat.le_of_ble_eq_true rfl) ⟨Nat.le_of_ble_eq_true rfl, Nat.le_of_ble_eq_true rfl, rfl, rfl⟩ dX9_behindTest_77 (sn_bIp (fun r14 => ?_)) sn_x0
        refine sn_iconst hO kc_m1 dX9_behindTest_80 ?_
        refine sn_icmp_ne hO 86 (by decide) dX9_behindTest_81 ?_ ?_
        · refine sn_aload_n hO 1 rfl dX9_behindTest_86 ?_
          refine sn_aload_n hO 1 rfl dX9_behindTest_87 ?_
          refine sn_bipush hO kb_41 dX9_behindTest_88 ?_
          refine sn_callV hO (c2 := 0) (s2 := 0) [.int 41] cvX9_288 (fun _ => sn_Rv_K atM_0) ctX9_isSign ⟨Nat.le_of_ble_eq_true rfl, Nat.le_of_ble_eq_true rfl⟩ rfl rfl (Nat.le_of_ble_eq_true rfl) ⟨Nat.le_of_ble_eq_true rfl, Nat.le_of_ble_eq_true rfl, rfl, rfl⟩ dX9_behindTest_90 (sn_bIp (fun r15 => ?_)) sn_x0
          refine sn_callV hO (c2 := 0) (s2 := 0) [.int r15] cvX9_254 (fun _ => sn_Rv_K atM_0) ctX9_must ⟨Nat.le_of_ble_eq_true rfl, Nat.le_of_ble_eq_true rfl⟩ rfl rfl (Nat.le_of_ble_eq_true rfl) ⟨Nat.le_of_ble_eq_true rfl, Nat.le_of_ble_eq_true rfl, rfl, rfl⟩ dX9_behindTest_93 (sn_bV (fun S16 => ?_)) sn_x0
          refine sn_aload_n hO 1 rfl dX9_behindTest_96 ?_
          refine sn_getI hO fmX9_219 atM_0 dX9_behindTest_97 ?_
          refine sn_if_ne hO 128 (by decide) dX9_behindTest_100 ?_ ?_
          · refine sn_iconst hO kc_2 dX9_behindTest_128 ?_
            subst hQq
            exact sn_iret hO rfl dX9_behindTest_129
          · refine sn_aload_n hO 1 rfl dX9_behindTest_103 ?_
            refine sn_iconst hO kc_1 dX9_behindTest_104 ?_
            refine sn_callV hO (c2 := 0) (s2 := 0) [.int 1] cvX9_309 (fun _ => sn_Rv_K atM_0) ctX9_settle ⟨Nat.le_of_ble_eq_true rfl, Nat.le_of_ble_eq_true rfl⟩ rfl rfl (Nat.le_of_ble_eq_true rfl) ⟨Nat.le_of_ble_eq_true rfl, Nat.le_of_ble_eq_true rfl, rfl, rfl⟩ dX9_behindTest_105 (sn_bV (fun S17 => ?_)) sn_x0
            refine sn_aload_n hO 1 rfl dX9_behindTest_108 ?_
            refine sn_dup hO rfl dX9_behindTest_109 ?_
            refine sn_getI hO fmX9_261 atM_0 dX9_behindTest_110 ?_
            refine sn_iconst hO kc_1 dX9_behindTest_113 ?_
            refine sn_isub hO dX9_behindTest_114 ?_
            refine sn_putI hO fmX9_261 atM_0 rfl rfl dX9_behindTest_115 ?_
            refine sn_nmS (fun S18 => ?_)
            refine sn_aload_n hO 1 rfl dX9_behindTest_118 ?_
            refine sn_dup hO rfl dX9_behindTest_119 ?_
            refine sn_getI hO fmX9_279 atM_0 dX9_behindTest_120 ?_
            refine sn_iconst hO kc_1 dX9_behindTest_123 ?_
            refine sn_isub hO dX9_behindTest_124 ?_
            refine sn_putI hO fmX9_279 atM_0 rfl rfl dX9_behindTest_125 ?_
            refine sn_nmS (fun S19 => ?_)
            refine sn_iconst hO kc_2 dX9_behindTest_128 ?_
            subst hQq
            exact sn_iret hO rfl dX9_behindTest_129
        · refine sn_iconst hO kc_4 dX9_behindTest_84 ?_
          subst hQq
          exact sn_iret hO rfl dX9_behindTest_85
      · refine sn_sub [1, 0] rfl ?_
        exact hk2
theorem ctX9_behindTest {w : sn_W} {S : sn_S} {Q : Int32 → sn_S → Prop} (h : wpX9_behindTest S Q) : sn_Ct LoM w yX9_behindTest (ws_ yX9_behindTest cX9_behindTest 2 (some .int)) rmX9_behindTest [.ref (w.2.2.1 0)] S (sn_qI Q) sn_noE := sn_Ct_of (LoM_X w) (by decide) (Nat.le_of_ble_eq_true rfl) RX9 rfl (fun C hO => wkX9_behindTest hO S Q h)
def rmX9_readExpression : Room := { frames := 6, cells := 0, slots := 0, locals := 126 }
/-- SnailPostModel.readExpression(Z)V -/
def wpX9_readExpression (p1 : Int32) (S : sn_S) (Q : sn_S → Prop) : Prop :=
  sn_lt (sn_pI S 0 23 0) (fun S1 => sn_lt (sn_pI S1 0 24 0) (fun S2 => sn_jn (fun (v3 : Int32) => sn_jn (fun (S5 : sn_S) => wpX9_settle 1 S5 (fun (S7 : sn_S) => Q S7)) (fun (k6 : sn_S → Prop) => sn_lp2 (fun (rc10 : Int32 → sn_S → Prop) (i8 : Int32) (S9 : sn_S) => ((¬ (S9.1 0 14) = 0 → k6 S9) ∧ ((S9.1 0 14) = 0 → ((i8 = 4 → k6 S9) ∧ (¬ i8 = 4 → sn_jn (fun (v11 : Int32) (S12 : sn_S) => rc10 v11 S12) (fun (k13 : Int32 → sn_S → Prop) => ((¬ i8 = 0 → ((¬ i8 = 1 → ((¬ i8 = 3 → wpX9_behindTest S9 (fun (r14 : Int32) (S15 : sn_S) => k13 r14 S15)) ∧ (i8 = 3 → wpX9_behindSum p1 S9 (fun (r16 : Int32) (S17 : sn_S) => k13 r16 S17)))) ∧ (i8 = 1 → wpX9_readPart S9 (fun (r18 : Int32) (S19 : sn_S) => k13 r18 S19)))) ∧ (i8 = 0 → wpX9_readPlain S9 (fun (r20 : Int32) (S21 : sn_S) => k13 r20 S21))))))))) v3 S2)) (fun (k4 : Int32 → Prop) => ((p1 = 0 → k4 1) ∧ (¬ p1 = 0 → k4 0)))))
theorem wkX9_readExpression {w : sn_W} {C : sn_C} (hO : sn_Ok LoM w C RX9 cX9_readExpression 3 none [] "readExpression") (p1 : Int32) (S : sn_S) (Q : sn_S → Prop) : wpX9_readExpression p1 S Q → sn_G LoM w rmX9_readExpression (sn_qV Q) sn_noE C 0 0 0 [(0, .ref (w.2.2.1 0)), (1, .int p1)] [] S := by
  unfold wpX9_readExpression
  generalize hQq : (sn_qV Q) = Qq
  refine sn_aload_n hO 0 rfl dX9_readExpression_0 ?_
  refine sn_iconst hO kc_0 dX9_readExpression_1 ?_
  refine sn_putI hO fmX9_261 atM_0 rfl rfl dX9_readExpression_2 ?_
  refine sn_nmS (fun S1 => ?_)
  refine sn_aload_n hO 0 rfl dX9_readExpression_5 ?_
  refine sn_iconst hO kc_0 dX9_readExpression_6 ?_
  refine sn_putI hO fmX9_279 atM_0 rfl rfl dX9_readExpression_7 ?_
  refine sn_nmS (fun S2 => ?_)
  refine sn_iload_n hO 1 rfl dX9_readExpression_10 ?_
  refine sn_jn_walk (fun (k : Int32 → Prop) => ∀ (v3 : Int32), k v3 → sn_G LoM w rmX9_readExpression Qq sn_noE C 0 0 19 [(0, .ref (w.2.2.1 0)), (1, .int p1)] [.int v3] S2) ?_ ?_
  · intro v3
    refine sn_istore_n hO (lv' := [(2, .int v3), (0, .ref (w.2.2.1 0)), (1, .int p1)]) (by decide) rfl dX9_readExpression_19 ?_
    refine sn_jn_walk (fun (k : sn_S → Prop) => ∀ (S5 : sn_S), k S5 → sn_G LoM w rmX9_readExpression Qq sn_noE C 0 0 76 [(0, .ref (w.2.2.1 0))] [] S5) ?_ ?_
    · intro S5
      refine sn_aload_n hO 0 rfl dX9_readExpression_76 ?_
      refine sn_iconst hO kc_1 dX9_readExpression_77 ?_
      refine sn_callV hO (c2 := 0) (s2 := 0) [.int 1] cvX9_309 (fun _ => sn_Rv_K atM_0) ctX9_settle ⟨Nat.le_of_ble_eq_true rfl, Nat.le_of_ble_eq_true rfl⟩ rfl rfl (Nat.le_of_ble_eq_true rfl) ⟨Nat.le_of_ble_eq_true rfl, Nat.le_of_ble_eq_true rfl, rfl, rfl⟩ dX9_readExpression_78 (sn_bV (fun S7 => ?_)) sn_x0
      subst hQq
      exact sn_vret hO rfl dX9_readExpression_81
    · intro k6 hk6
      refine sn_sub [1, 2, 0] rfl ?_
      refine sn_lp2_walk (Gd := fun (i8 : Int32) (S9 : sn_S) => sn_G LoM w rmX9_readExpression Qq sn_noE C 0 0 20 [(0, .ref (w.2.2.1 0)), (1, .int p1), (2, .int i8)] [] S9) ?_ _ _
      intro rc10 hrc10 i8 S9
      refine sn_aload_n hO 0 rfl dX9_readExpression_20 ?_
      refine sn_getI hO fmX9_219 atM_0 dX9_readExpression_21 ?_
      refine sn_if_ne hO 76 (by decide) dX9_readExpression_24 ?_ ?_
      · refine sn_sub [0] rfl ?_
        exact hk6 _
      · refine sn_iload_n hO 2 rfl dX9_readExpression_27 ?_
        refine sn_iconst hO kc_4 dX9_readExpression_28 ?_
        refine sn_icmp_eq hO 76 (by decide) dX9_readExpression_29 ?_ ?_
        · refine sn_sub [0] rfl ?_
          exact hk6 _
        · refine sn_iload_n hO 2 rfl dX9_readExpression_32 ?_
          refine sn_jn_walk (fun (k : Int32 → sn_S → Prop) => ∀ (v11 : Int32) (S12 : sn_S), k v11 S12 → sn_G LoM w rmX9_readExpression Qq sn_noE C 0 0 72 [(0, .ref (w.2.2.1 0)), (1, .int p1)] [.int v11] S12) ?_ ?_
          · intro v11 S12
            refine sn_istore_n hO (lv' := [(2, .int v11), (0, .ref (w.2.2.1 0)), (1, .int p1)]) (by decide) rfl dX9_readExpression_72 ?_
            refine sn_goto hO 20 (by decide) dX9_readExpression_73 ?_
            refine sn_sub [1, 2, 0] rfl ?_
            exact hrc10 _ _
          · intro k13 hk13
            refine sn_if_ne hO 43 (by decide) dX9_readExpression_33 ?_ ?_
            · refine sn_iload_n hO 2 rfl dX9_readExpression_43 ?_
              refine sn_iconst hO kc_1 dX9_readExpression_44 ?_
              refine sn_icmp_ne hO 55 (by decide) dX9_readExpression_45 ?_ ?_
              · refine sn_iload_n hO 2 rfl dX9_readExpression_55 ?_
                refine sn_iconst hO kc_3 dX9_readExpression_56 ?_
                refine sn_icmp_ne hO 68 (by decide) dX9_readExpression_57 ?_ ?_
                · refine sn_aload_n hO 0 rfl dX9_readExpression_68 ?_
                  refine sn_callV hO (c2 := 0) (s2 := 0) [] cvX9_330 (fun _ => sn_Rv_K atM_0) ctX9_behindTest ⟨Nat.le_of_ble_eq_true rfl, Nat.le_of_ble_eq_true rfl⟩ rfl rfl (Nat.le_of_ble_eq_true rfl) ⟨Nat.le_of_ble_eq_true rfl, Nat.le_of_ble_eq_true rfl, rfl, rfl⟩ dX9_readExpression_69 (sn_bI (fun r14 S15 => ?_)) sn_x0
                  refine sn_sub [0, 1] rfl ?_
                  exact hk13 _ _
                · refine sn_aload_n hO 0 rfl dX9_readExpression_60 ?_
                  refine sn_iload_n hO 1 rfl dX9_readExpression_61 ?_
                  refine sn_callV hO (c2 := 0) (s2 := 0) [.int p1] cvX9_326 (fun _ => sn_Rv_K atM_0) ctX9_behindSum ⟨Nat.le_of_ble_eq_true rfl, Nat.le_of_ble_eq_true rfl⟩ rfl rfl (Nat.le_of_ble_eq_true rfl) ⟨Nat.le_of_ble_eq_true rfl, Nat.le_of_ble_eq_true rfl, rfl, rfl⟩ dX9_readExpression_62 (sn_bI (fun r16 S17 => ?_)) sn_x0
                  refine sn_goto hO 72 (by decide) dX9_readExpression_65 ?_
                  refine sn_sub [0, 1] rfl ?_
                  exact hk13 _ _
              · refine sn_aload_n hO 0 rfl dX9_readExpression_48 ?_
                refine sn_callV hO (c2 := 0) (s2 := 0) [] cvX9_306 (fun _ => sn_Rv_K atM_0) ctX9_readPart ⟨Nat.le_of_ble_eq_true rfl, Nat.le_of_ble_eq_true rfl⟩ rfl rfl (Nat.le_of_ble_eq_true rfl) ⟨Nat.le_of_ble_eq_true rfl, Nat.le_of_ble_eq_true rfl, rfl, rfl⟩ dX9_readExpression_49 (sn_bI (fun r18 S19 => ?_)) sn_x0
                refine sn_goto hO 72 (by decide) dX9_readExpression_52 ?_
                refine sn_sub [0, 1] rfl ?_
                exact hk13 _ _
            · refine sn_aload_n hO 0 rfl dX9_readExpression_36 ?_
              refine sn_callV hO (c2 := 0) (s2 := 0) [] cvX9_323 (fun _ => sn_Rv_K atM_0) ctX9_readPlain ⟨Nat.le_of_ble_eq_true rfl, Nat.le_of_ble_eq_true rfl⟩ rfl rfl (Nat.le_of_ble_eq_true rfl) ⟨Nat.le_of_ble_eq_true rfl, Nat.le_of_ble_eq_true rfl, rfl, rfl⟩ dX9_readExpression_37 (sn_bI (fun r20 S21 => ?_)) sn_x0
              refine sn_goto hO 72 (by decide) dX9_readExpression_40 ?_
              refine sn_sub [0, 1] rfl ?_
              exact hk13 _ _
  · intro k4 hk4
    refine sn_if_eq hO 18 (by decide) dX9_readExpression_11 ?_ ?_
    · refine sn_iconst hO kc_1 dX9_readExpression_18 ?_
      exact hk4 _
    · refine sn_iconst hO kc_0 dX9_readExpression_14 ?_
      refine sn_goto hO 19 (by decide) dX9_readExpression_15 ?_
      exact hk4 _
theorem ctX9_readExpression {w : sn_W} {p1 : Int32} {S : sn_S} {Q : sn_S → Prop} (h : wpX9_readExpression p1 S Q) : sn_Ct LoM w yX9_readExpression (ws_ yX9_readExpression cX9_readExpression 3 none) rmX9_readExpression [.ref (w.2.2.1 0), .int p1] S (sn_qV Q) sn_noE := sn_Ct_of (LoM_X w) (by decide) (Nat.le_of_ble_eq_true rfl) RX9 rfl (fun C hO => wkX9_readExpression hO p1 S Q h)
def rmX9_readClause : Room := { frames := 7, cells := 0, slots := 0, locals := 148 }
/-- SnailPostModel.readClause()V -/
def wpX9_readClause (S : sn_S) (Q : sn_S → Prop) : Prop :=
  sn_jn (fun (v1 : Int32) => sn_jn (fun (v3 : Int32) => wpX9_must v3 S (fun (S5 : sn_S) => (((S5.1 0 14) = 0 → sn_lt (8 * (S5.1 0 15)) (fun x6 => sn_jn (fun (S7 : sn_S) => (vp_in x6 96 ∧ sn_lt (sn_pI S7 6 (x6).toNatClampNeg v1) (fun S9 => sn_lt (sn_pI S9 0 15 ((S9.1 0 15) + 1)) (fun S10 => (vp_in (x6 + 3) 96 ∧ sn_lt (sn_pI S10 6 ((x6 + 3)).toNatClampNeg (S10.1 0 17)) (fun S11 => sn_jn (fun (S12 : sn_S) => (vp_in (x6 + 4) 96 ∧ sn_lt (sn_pI S12 6 ((x6 + 4)).toNatClampNeg (S12.1 0 17)) (fun S14 => (vp_in (x6 + 5) 96 ∧ sn_lt (sn_pI S14 6 ((x6 + 5)).toNatClampNeg (S14.1 0 17)) (fun S15 => sn_jn (fun (S16 : sn_S) => (vp_in (x6 + 6) 96 ∧ sn_lt (sn_pI S16 6 ((x6 + 6)).toNatClampNeg (S16.1 0 17)) (fun S18 => Q S18))) (fun (k17 : sn_S → Prop) => ((¬ (S15.1 0 14) = 0 → k17 S15) ∧ ((S15.1 0 14) = 0 → wpX9_isWord 294 S15 (fun (r19 : Int32) => ((r19 = 0 → k17 S15) ∧ (¬ r19 = 0 → wpX9_next S15 (fun (S20 : sn_S) => wpX9_readExpression 1 S20 (fun (S21 : sn_S) => k17 S21))))))))))))) (fun (k13 : sn_S → Prop) => ((2 ≤ v1 → k13 S11) ∧ (¬ 2 ≤ v1 → wpX9_readExpression 0 S11 (fun (S22 : sn_S) => k13 S22)))))))))) (fun (k8 : sn_S → Prop) => sn_lp2 (fun (rc25 : Int32 → sn_S → Prop) (i23 : Int32) (S24 : sn_S) => ((8 ≤ i23 → k8 S24) ∧ (¬ 8 ≤ i23 → (vp_in (x6 + i23) 96 ∧ sn_lt (sn_pI S24 6 ((x6 + i23)).toNatClampNeg 0) (fun S26 => rc25 (i23 + 1) S26))))) 0 S5))) ∧ (¬ (S5.1 0 14) = 0 → Q S5)))) (fun (k4 : Int32 → Prop) => sn_jn (κ := Prop) (k4 0) (fun (k27 : Prop) => ((v1 = (-1) → k27) ∧ (¬ v1 = (-1) → ((12 ≤ (S.1 0 15) → k27) ∧ (¬ 12 ≤ (S.1 0 15) → k4 1))))))) (fun (k2 : Int32 → Prop) => sn_lp2 (fun (rc30 : Int32 → Int32 → Prop) (i28 : Int32) (i29 : Int32) => ((3 ≤ i29 → k2 i28) ∧ (¬ 3 ≤ i29 → (vp_in i29 3 ∧ wpX9_isWord (S.2.1 12 (i29).toNatClampNeg) S (fun (r31 : Int32) => sn_jn (fun (v32 : Int32) => rc30 v32 (i29 + 1)) (fun (k33 : Int32 → Prop) => ((r31 = 0 → k33 i28) ∧ (¬ r31 = 0 → k33 i29)))))))) (-1) 0)
theorem wkX9_readClause {w : sn_W} {C : sn_C} (hO : sn_Ok LoM w C RX9 cX9_readClause 4 none [] "readClause") (S : sn_S) (Q : sn_S → Prop) : wpX9_readClause S Q → sn_G LoM w rmX9_readClause (sn_qV Q) sn_noE C 0 0 0 [(0, .ref (w.2.2.1 0))] [] S := by
  unfold wpX9_readClause
  generalize hQq : (sn_qV Q) = Qq
  refine sn_iconst hO kc_m1 dX9_readClause_0 ?_
  refine sn_istore_n hO (lv' := [(1, .int (-1)), (0, .ref (w.2.2.1 0))]) (by decide) rfl dX9_readClause_1 ?_
  refine sn_iconst hO kc_0 dX9_readClause_2 ?_
  refine sn_istore_n hO (lv' := [(2, .int 0), (1, .int (-1)), (0, .ref (w.2.2.1 0))]) (by decide) rfl dX9_readClause_3 ?_
  refine sn_jn_walk (fun (k : Int32 → Prop) => ∀ (v1 : Int32), k v1 → sn_G LoM w rmX9_readClause Qq sn_noE C 0 0 34 [(0, .ref (w.2.2.1 0)), (1, .int v1)] [] S) ?_ ?_
  · intro v1
    refine sn_aload_n hO 0 rfl dX9_readClause_34 ?_
    refine sn_iload_n hO 1 rfl dX9_readClause_35 ?_
    refine sn_iconst hO kc_m1 dX9_readClause_36 ?_
    refine sn_jn_walk (fun (k : Int32 → Prop) => ∀ (v3 : Int32), k v3 → sn_G LoM w rmX9_readClause Qq sn_noE C 0 0 54 [(0, .ref (w.2.2.1 0)), (1, .int v1)] [.int v3, .ref (w.2.2.1 0)] S) ?_ ?_
    · intro v3
      refine sn_callV hO (c2 := 0) (s2 := 0) [.int v3] cvX9_254 (fun _ => sn_Rv_K atM_0) ctX9_must ⟨Nat.le_of_ble_eq_true rfl, Nat.le_of_ble_eq_true rfl⟩ rfl rfl (Nat.le_of_ble_eq_true rfl) ⟨Nat.le_of_ble_eq_true rfl, Nat.le_of_ble_eq_true rfl, rfl, rfl⟩ dX9_readClause_54 (sn_bV (fun S5 => ?_)) sn_x0
      refine sn_aload_n hO 0 rfl dX9_readClause_57 ?_
      refine sn_getI hO fmX9_219 atM_0 dX9_readClause_58 ?_
      refine sn_if_eq hO 65 (by decide) dX9_readClause_61 ?_ ?_
      · refine sn_bipush hO kb_8 dX9_readClause_65 ?_
        refine sn_aload_n hO 0 rfl dX9_readClause_67 ?_
        refine sn_getI hO fmX9_333 atM_0 dX9_readClause_68 ?_
        refine sn_imul hO dX9_readClause_71 ?_
        refine sn_nmI (fun x6 => ?_)
        refine sn_istore_n hO (lv' := [(2, .int x6), (0, .ref (w.2.2.1 0)), (1, .int v1)]) (by decide) rfl dX9_readClause_72 ?_
        refine sn_iconst hO kc_0 dX9_readClause_73 ?_
        refine sn_istore_n hO (lv' := [(3, .int 0), (2, .int x6), (0, .ref (w.2.2.1 0)), (1, .int v1)]) (by decide) rfl dX9_readClause_74 ?_
        refine sn_jn_walk (fun (k : sn_S → Prop) => ∀ (S7 : sn_S), k S7 → sn_G LoM w rmX9_readClause Qq sn_noE C 0 0 96 [(0, .ref (w.2.2.1 0)), (1, .int v1), (2, .int x6)] [] S7) ?_ ?_
        · intro S7
          refine sn_aload_n hO 0 rfl dX9_readClause_96 ?_
          refine sn_getF hO fmX9_30 atM_0 dX9_readClause_97 ?_
          refine sn_iload_n hO 2 rfl dX9_readClause_100 ?_
          refine sn_iload_n hO 1 rfl dX9_readClause_101 ?_
          refine sn_iast hO atM_6 rfl dX9_readClause_102 ?_
          refine sn_nmS (fun S9 => ?_)
          refine sn_aload_n hO 0 rfl dX9_readClause_103 ?_
          refine sn_dup hO rfl dX9_readClause_104 ?_
          refine sn_getI hO fmX9_333 atM_0 dX9_readClause_105 ?_
          refine sn_iconst hO kc_1 dX9_readClause_108 ?_
          refine sn_iadd hO dX9_readClause_109 ?_
          refine sn_putI hO fmX9_333 atM_0 rfl rfl dX9_readClause_110 ?_
          refine sn_nmS (fun S10 => ?_)
          refine sn_aload_n hO 0 rfl dX9_readClause_113 ?_
          refine sn_getF hO fmX9_30 atM_0 dX9_readClause_114 ?_
          refine sn_iload_n hO 2 rfl dX9_readClause_117 ?_
          refine sn_iconst hO kc_3 dX9_readClause_118 ?_
          refine sn_iadd hO dX9_readClause_119 ?_
          refine sn_aload_n hO 0 rfl dX9_readClause_120 ?_
          refine sn_getI hO fmX9_258 atM_0 dX9_readClause_121 ?_
          refine sn_iast hO atM_6 rfl dX9_readClause_124 ?_
          refine sn_nmS (fun S11 => ?_)
          refine sn_iload_n hO 1 rfl dX9_readClause_125 ?_
          refine sn_iconst hO kc_2 dX9_readClause_126 ?_
          refine sn_jn_walk (fun (k : sn_S → Prop) => ∀ (S12 : sn_S), k S12 → sn_G LoM w rmX9_readClause Qq sn_noE C 0 0 135 [(0, .ref (w.2.2.1 0)), (2, .int x6)] [] S12) ?_ ?_
          · intro S12
            refine sn_aload_n hO 0 rfl dX9_readClause_135 ?_
            refine sn_getF hO fmX9_30 atM_0 dX9_readClause_136 ?_
            refine sn_iload_n hO 1 rfl dX9_readClause_139 ?_
            refine sn_iconst hO kc_4 dX9_readClause_140 ?_
            refine sn_iadd hO dX9_readClause_141 ?_
            refine sn_aload_n hO 0 rfl dX9_readClause_142 ?_
            refine sn_getI hO fmX9_258 atM_0 dX9_readClause_143 ?_
            refine sn_iast hO atM_6 rfl dX9_readClause_146 ?_
            refine sn_nmS (fun S14 => ?_)
            refine sn_aload_n hO 0 rfl dX9_readClause_147 ?_
            refine sn_getF hO fmX9_30 atM_0 dX9_readClause_148 ?_
            refine sn_iload_n hO 1 rfl dX9_readClause_151 ?_
            refine sn_iconst hO kc_5 dX9_readClause_152 ?_
            refine sn_iadd hO dX9_readClause_153 ?_
            refine sn_aload_n hO 0 rfl dX9_readClause_154 ?_
            refine sn_getI hO fmX9_258 atM_0 dX9_readClause_155 ?_
            refine sn_iast hO atM_6 rfl dX9_readClause_158 ?_
            refine sn_nmS (fun S15 => ?_)
            refine sn_aload_n hO 0 rfl dX9_readClause_159 ?_
            refine sn_getI hO fmX9_219 atM_0 dX9_readClause_160 ?_
            refine sn_jn_walk (fun (k : sn_S → Prop) => ∀ (S16 : sn_S), k S16 → sn_G LoM w rmX9_readClause Qq sn_noE C 0 0 185 [(0, .ref (w.2.2.1 0)), (2, .int x6)] [] S16) ?_ ?_
            · intro S16
              refine sn_aload_n hO 0 rfl dX9_readClause_185 ?_
              refine sn_getF hO fmX9_30 atM_0 dX9_readClause_186 ?_
              refine sn_iload_n hO 1 rfl dX9_readClause_189 ?_
              refine sn_bipush hO kb_6 dX9_readClause_190 ?_
              refine sn_iadd hO dX9_readClause_192 ?_
              refine sn_aload_n hO 0 rfl dX9_readClause_193 ?_
              refine sn_getI hO fmX9_258 atM_0 dX9_readClause_194 ?_
              refine sn_iast hO atM_6 rfl dX9_readClause_197 ?_
              refine sn_nmS (fun S18 => ?_)
              subst hQq
              exact sn_vret hO rfl dX9_readClause_198
            · intro k17 hk17
              refine sn_if_ne hO 185 (by decide) dX9_readClause_163 ?_ ?_
              · exact hk17 _
              · refine sn_aload_n hO 0 rfl dX9_readClause_166 ?_
                refine sn_ldc2 hO q1845 dX9_readClause_167 ?_
                refine sn_callV hO (c2 := 0) (s2 := 0) [.long 294] cvX9_275 (fun _ => sn_Rv_K atM_0) ctX9_isWord ⟨Nat.le_of_ble_eq_true rfl, Nat.le_of_ble_eq_true rfl⟩ rfl rfl (Nat.le_of_ble_eq_true rfl) ⟨Nat.le_of_ble_eq_true rfl, Nat.le_of_ble_eq_true rfl, rfl, rfl⟩ dX9_readClause_170 (sn_bIp (fun r19 => ?_)) sn_x0
                refine sn_if_eq hO 185 (by decide) dX9_readClause_173 ?_ ?_
                · exact hk17 _
                · refine sn_aload_n hO 0 rfl dX9_readClause_176 ?_
                  refine sn_callV hO (c2 := 0) (s2 := 0) [] cvX9_223 (fun _ => sn_Rv_K atM_0) ctX9_next ⟨Nat.le_of_ble_eq_true rfl, Nat.le_of_ble_eq_true rfl⟩ rfl rfl (Nat.le_of_ble_eq_true rfl) ⟨Nat.le_of_ble_eq_true rfl, Nat.le_of_ble_eq_true rfl, rfl, rfl⟩ dX9_readClause_177 (sn_bV (fun S20 => ?_)) sn_x0
                  refine sn_aload_n hO 0 rfl dX9_readClause_180 ?_
                  refine sn_iconst hO kc_1 dX9_readClause_181 ?_
                  refine sn_callV hO (c2 := 0) (s2 := 0) [.int 1] cvX9_336 (fun _ => sn_Rv_K atM_0) ctX9_readExpression ⟨Nat.le_of_ble_eq_true rfl, Nat.le_of_ble_eq_true rfl⟩ rfl rfl (Nat.le_of_ble_eq_true rfl) ⟨Nat.le_of_ble_eq_true rfl, Nat.le_of_ble_eq_true rfl, rfl, rfl⟩ dX9_readClause_182 (sn_bV (fun S21 => ?_)) sn_x0
                  exact hk17 _
          · intro k13 hk13
            refine sn_icmp_ge hO 135 (by decide) dX9_readClause_127 ?_ ?_
            · refine sn_sub [0, 2] rfl ?_
              exact hk13 _
            · refine sn_aload_n hO 0 rfl dX9_readClause_130 ?_
              refine sn_iconst hO kc_0 dX9_readClause_131 ?_
              refine sn_callV hO (c2 := 0) (s2 := 0) [.int 0] cvX9_336 (fun _ => sn_Rv_K atM_0) ctX9_readExpression ⟨Nat.le_of_ble_eq_true rfl, Nat.le_of_ble_eq_true rfl⟩ rfl rfl (Nat.le_of_ble_eq_true rfl) ⟨Nat.le_of_ble_eq_true rfl, Nat.le_of_ble_eq_true rfl, rfl, rfl⟩ dX9_readClause_132 (sn_bV (fun S22 => ?_)) sn_x0
              refine sn_sub [0, 2] rfl ?_
              exact hk13 _
        · intro k8 hk8
          refine sn_sub [2, 3, 1, 0] rfl ?_
          refine sn_lp2_walk (Gd := fun (i23 : Int32) (S24 : sn_S) => sn_G LoM w rmX9_readClause Qq sn_noE C 0 0 75 [(0, .ref (w.2.2.1 0)), (1, .int v1), (2, .int x6), (3, .int i23)] [] S24) ?_ _ _
          intro rc25 hrc25 i23 S24
          refine sn_iload_n hO 3 rfl dX9_readClause_75 ?_
          refine sn_bipush hO kb_8 dX9_readClause_76 ?_
          refine sn_icmp_ge hO 96 (by decide) dX9_readClause_78 ?_ ?_
          · refine sn_sub [0, 1, 2] rfl ?_
            exact hk8 _
          · refine sn_aload_n hO 0 rfl dX9_readClause_81 ?_
            refine sn_getF hO fmX9_30 atM_0 dX9_readClause_82 ?_
            refine sn_iload_n hO 2 rfl dX9_readClause_85 ?_
            refine sn_iload_n hO 3 rfl dX9_readClause_86 ?_
            refine sn_iadd hO dX9_readClause_87 ?_
            refine sn_iconst hO kc_0 dX9_readClause_88 ?_
            refine sn_iast hO atM_6 rfl dX9_readClause_89 ?_
            refine sn_nmS (fun S26 => ?_)
            refine sn_iinc hO (lv' := [(3, .int (i23 + 1)), (0, .ref (w.2.2.1 0)), (1, .int v1), (2, .int x6)]) 3 rfl ki_1 (by decide) rfl dX9_readClause_90 ?_
            refine sn_goto hO 75 (by decide) dX9_readClause_93 ?_
            refine sn_sub [1, 2, 3, 0] rfl ?_
            exact hrc25 _ _
      · subst hQq
        exact sn_vret hO rfl dX9_readClause_64
    · intro k4 hk4
      refine sn_jn_walk (fun (k : Prop) => k → sn_G LoM w rmX9_readClause Qq sn_noE C 0 0 53 [(0, .ref (w.2.2.1 0)), (1, .int v1)] [.ref (w.2.2.1 0)] S) ?_ ?_
      · refine sn_iconst hO kc_0 dX9_readClause_53 ?_
        exact hk4 _
      · intro k27 hk27
        refine sn_icmp_eq hO 53 (by decide) dX9_readClause_37 ?_ ?_
        · exact hk27
        · refine sn_aload_n hO 0 rfl dX9_readClause_40 ?_
          refine sn_getI hO fmX9_333 atM_0 dX9_readClause_41 ?_
          refine sn_bipush hO kb_12 dX9_readClause_44 ?_
          refine sn_icmp_ge hO 53 (by decide) dX9_readClause_46 ?_ ?_
          · exact hk27
          · refine sn_iconst hO kc_1 dX9_readClause_49 ?_
            refine sn_goto hO 54 (by decide) dX9_readClause_50 ?_
            exact hk4 _
  · intro k2 hk2
    refine sn_sub [2, 1, 0] rfl ?_
    refine sn_lp2_walk (Gd := fun (i28 : Int32) (i29 : Int32) => sn_G LoM w rmX9_readClause Qq sn_noE C 0 0 4 [(0, .ref (w.2.2.1 0)), (1, .int i28), (2, .int i29)] [] S) ?_ _ _
    intro rc30 hrc30 i28 i29
    refine sn_iload_n hO 2 rfl dX9_readClause_4 ?_
    refine sn_iconst hO kc_3 dX9_readClause_5 ?_
    refine sn_icmp_ge hO 34 (by decide) dX9_readClause_6 ?_ ?_
    · refine sn_sub [0, 1] rfl ?_
      exact hk2 _
    · refine sn_aload_n hO 0 rfl dX9_readClause_9 ?_
      refine sn_aload_n hO 0 rfl dX9_readClause_10 ?_
      refine sn_getF hO fmX9_75 atM_0 dX9_readClause_11 ?_
      refine sn_iload_n hO 2 rfl dX9_readClause_14 ?_
      refine sn_lald hO atM_12 rfl dX9_readClause_15 ?_
      refine sn_callV hO (c2 := 0) (s2 := 0) [.long (S.2.1 12 (i29).toNatClampNeg)] cvX9_275 (fun _ => sn_Rv_K atM_0) ctX9_isWord ⟨Nat.le_of_ble_eq_true rfl, Nat.le_of_ble_eq_true rfl⟩ rfl rfl (Nat.le_of_ble_eq_true rfl) ⟨Nat.le_of_ble_eq_true rfl, Nat.le_of_ble_eq_true rfl, rfl, rfl⟩ dX9_readClause_16 (sn_bIp (fun r31 => ?_)) sn_x0
      refine sn_jn_walk (fun (k : Int32 → Prop) => ∀ (v32 : Int32), k v32 → sn_G LoM w rmX9_readClause Qq sn_noE C 0 0 27 [(0, .ref (w.2.2.1 0)), (2, .int i29)] [.int v32] S) ?_ ?_
      · intro v32
        refine sn_istore_n hO (lv' := [(1, .int v32), (0, .ref (w.2.2.1 0)), (2, .int i29)]) (by decide) rfl dX9_readClause_27 ?_
        refine sn_iinc hO (lv' := [(2, .int (i29 + 1)), (1, .int v32), (0, .ref (w.2.2.1 0))]) 2 rfl ki_1 (by decide) rfl dX9_readClause_28 ?_
        refine sn_goto hO 4 (by decide) dX9_readClause_31 ?_
        refine sn_sub [2, 1, 0] rfl ?_
        exact hrc30 _ _
      · intro k33 hk33
        refine sn_if_eq hO 26 (by decide) dX9_readClause_19 ?_ ?_
        · refine sn_iload_n hO 1 rfl dX9_readClause_26 ?_
          refine sn_sub [0, 2] rfl ?_
          exact hk33 _
        · refine sn_iload_n hO 2 rfl dX9_readClause_22 ?_
          refine sn_goto hO 27 (by decide) dX9_readClause_23 ?_
          refine sn_sub [0, 2] rfl ?_
          exact hk33 _
theorem ctX9_readClause {w : sn_W} {S : sn_S} {Q : sn_S → Prop} (h : wpX9_readClause S Q) : sn_Ct LoM w yX9_readClause (ws_ yX9_readClause cX9_readClause 4 none) rmX9_readClause [.ref (w.2.2.1 0)] S (sn_qV Q) sn_noE := sn_Ct_of (LoM_X w) (by decide) (Nat.le_of_ble_eq_true rfl) RX9 rfl (fun C hO => wkX9_readClause hO S Q h)
def rmX9_law : Room := { frames := 8, cells := 0, slots := 0, locals := 171 }
/-- SnailPostModel.law()I -/
def wpX9_law (S : sn_S) (Q : Int32 → sn_S → Prop) : Prop :=
  sn_lt (sn_pI S 0 0 0) (fun S1 => (vp_in 2 5680 ∧ ((¬ (S1.1 2 (2 : Int32).toNatClampNeg) = 6 → wpX9_begin S1 (fun (S2 : sn_S) => sn_lt (sn_pI S2 0 15 0) (fun S3 => sn_lt (sn_pI S3 0 17 0) (fun S4 => sn_lt (sn_pI S4 0 20 0) (fun S5 => wpX9_readClause S5 (fun (S6 : sn_S) => sn_jn (fun (S7 : sn_S) => sn_jn (fun (S9 : sn_S) => sn_lt (sn_pI S9 0 8 0) (fun S11 => (((S11.1 0 14) = 0 → (vp_in 2 5680 ∧ sn_lt (280 + (900 * (S11.1 2 (2 : Int32).toNatClampNeg))) (fun x12 => (vp_in (x12 + 1) 5680 ∧ sn_lt (sn_pI S11 2 ((x12 + 1)).toNatClampNeg (S11.1 0 15)) (fun S13 => sn_jn (fun (S14 : sn_S) => sn_jn (fun (S16 : sn_S) => (vp_in 2 5680 ∧ (vp_in 2 5680 ∧ sn_lt (sn_pI S16 2 (2 : Int32).toNatClampNeg ((S16.1 2 (2 : Int32).toNatClampNeg) + 1)) (fun S18 => (vp_in 2 5680 ∧ wpX9_tell ((S18.1 2 (2 : Int32).toNatClampNeg) - 1) S18 (fun (r19 : Int32) (S20 : sn_S) => Q r19 S20)))))) (fun (k17 : sn_S → Prop) => sn_lp2 (fun (rc23 : Int32 → sn_S → Prop) (i21 : Int32) (S22 : sn_S) => (((S22.1 0 17) ≤ i21 → k17 S22) ∧ (¬ (S22.1 0 17) ≤ i21 → (vp_in i21 400 ∧ (vp_in ((x12 + 98) + (2 * i21)) 5680 ∧ sn_lt (sn_pI S22 2 (((x12 + 98) + (2 * i21))).toNatClampNeg (S22.1 7 (i21).toNatClampNeg)) (fun S24 => (vp_in i21 400 ∧ (vp_in (((x12 + 98) + (2 * i21)) + 1) 5680 ∧ sn_lt (sn_pI S24 2 ((((x12 + 98) + (2 * i21)) + 1)).toNatClampNeg (S24.1 8 (i21).toNatClampNeg)) (fun S25 => rc23 (i21 + 1) S25))))))))) 0 S14)) (fun (k15 : sn_S → Prop) => sn_lp2 (fun (rc28 : Int32 → sn_S → Prop) (i26 : Int32) (S27 : sn_S) => (((8 * (S27.1 0 15)) ≤ i26 → k15 S27) ∧ (¬ (8 * (S27.1 0 15)) ≤ i26 → (vp_in i26 96 ∧ (vp_in ((x12 + 2) + i26) 5680 ∧ sn_lt (sn_pI S27 2 (((x12 + 2) + i26)).toNatClampNeg (S27.1 6 (i26).toNatClampNeg)) (fun S29 => rc28 (i26 + 1) S29)))))) 0 S13)))))) ∧ (¬ (S11.1 0 14) = 0 → wpX9_tell (-6) S11 (fun (r30 : Int32) (S31 : sn_S) => Q r30 S31))))) (fun (k10 : sn_S → Prop) => ((¬ (S7.1 0 14) = 0 → k10 S7) ∧ ((S7.1 0 14) = 0 → (((S7.1 0 11) = 0 → k10 S7) ∧ (¬ (S7.1 0 11) = 0 → wpX9_must 0 S7 (fun (S32 : sn_S) => k10 S32))))))) (fun (k8 : sn_S → Prop) => sn_lp1 (fun (rc34 : sn_S → Prop) (S33 : sn_S) => ((¬ (S33.1 0 14) = 0 → k8 S33) ∧ ((S33.1 0 14) = 0 → wpX9_isSign 59 S33 (fun (r35 : Int32) => ((r35 = 0 → k8 S33) ∧ (¬ r35 = 0 → wpX9_next S33 (fun (S36 : sn_S) => wpX9_readClause S36 (fun (S37 : sn_S) => rc34 S37)))))))) S6))))))) ∧ ((S1.1 2 (2 : Int32).toNatClampNeg) = 6 → sn_lt (sn_pI S1 0 8 0) (fun S38 => wpX9_tell (-5) S38 (fun (r39 : Int32) (S40 : sn_S) => Q r39 S40))))))
theorem wkX9_law {w : sn_W} {C : sn_C} (hO : sn_Ok LoM w C RX9 cX9_law 3 (some .int) [] "law") (S : sn_S) (Q : Int32 → sn_S → Prop) : wpX9_law S Q → sn_G LoM w rmX9_law (sn_qI Q) sn_noE C 0 0 0 [(0, .ref (w.2.2.1 0))] [] S := by
  unfold wpX9_law
  generalize hQq : (sn_qI Q) = Qq
  refine sn_aload_n hO 0 rfl dX9_law_0 ?_
  refine sn_iconst hO kc_0 dX9_law_1 ?_
  refine sn_putI hO fmX9_150 atM_0 rfl rfl dX9_law_2 ?_
  refine sn_nmS (fun S1 => ?_)
  refine sn_aload_n hO 0 rfl dX9_law_5 ?_
  refine sn_getF hO fmX9_13 atM_0 dX9_law_6 ?_
  refine sn_iconst hO kc_2 dX9_law_9 ?_
  refine sn_iald hO atM_2 rfl dX9_law_10 ?_
  refine sn_bipush hO kb_6 dX9_law_11 ?_
  refine sn_icmp_ne hO 28 (by decide) dX9_law_13 ?_ ?_
  · refine sn_aload_n hO 0 rfl dX9_law_28 ?_
    refine sn_callV hO (c2 := 0) (s2 := 0) [] cvX9_341 (fun _ => sn_Rv_K atM_0) ctX9_begin ⟨Nat.le_of_ble_eq_true rfl, Nat.le_of_ble_eq_true rfl⟩ rfl rfl (Nat.le_of_ble_eq_true rfl) ⟨Nat.le_of_ble_eq_true rfl, Nat.le_of_ble_eq_true rfl, rfl, rfl⟩ dX9_law_29 (sn_bV (fun S2 => ?_)) sn_x0
    refine sn_aload_n hO 0 rfl dX9_law_32 ?_
    refine sn_iconst hO kc_0 dX9_law_33 ?_
    refine sn_putI hO fmX9_333 atM_0 rfl rfl dX9_law_34 ?_
    refine sn_nmS (fun S3 => ?_)
    refine sn_aload_n hO 0 rfl dX9_law_37 ?_
    refine sn_iconst hO kc_0 dX9_law_38 ?_
    refine sn_putI hO fmX9_258 atM_0 rfl rfl dX9_law_39 ?_
    refine sn_nmS (fun S4 => ?_)
    refine sn_aload_n hO 0 rfl dX9_law_42 ?_
    refine sn_iconst hO kc_0 dX9_law_43 ?_
    refine sn_putI hO fmX9_285 atM_0 rfl rfl dX9_law_44 ?_
    refine sn_nmS (fun S5 => ?_)
    refine sn_aload_n hO 0 rfl dX9_law_47 ?_
    refine sn_callV hO (c2 := 0) (s2 := 0) [] cvX9_344 (fun _ => sn_Rv_K atM_0) ctX9_readClause ⟨Nat.le_of_ble_eq_true rfl, Nat.le_of_ble_eq_true rfl⟩ rfl rfl (Nat.le_of_ble_eq_true rfl) ⟨Nat.le_of_ble_eq_true rfl, Nat.le_of_ble_eq_true rfl, rfl, rfl⟩ dX9_law_48 (sn_bV (fun S6 => ?_)) sn_x0
    refine sn_jn_walk (fun (k : sn_S → Prop) => ∀ (S7 : sn_S), k S7 → sn_G LoM w rmX9_law Qq sn_noE C 0 0 78 [(0, .ref (w.2.2.1 0))] [] S7) ?_ ?_
    · intro S7
      refine sn_aload_n hO 0 rfl dX9_law_78 ?_
      refine sn_getI hO fmX9_219 atM_0 dX9_law_79 ?_
      refine sn_jn_walk (fun (k : sn_S → Prop) => ∀ (S9 : sn_S), k S9 → sn_G LoM w rmX9_law Qq sn_noE C 0 0 97 [(0, .ref (w.2.2.1 0))] [] S9) ?_ ?_
      · intro S9
        refine sn_aload_n hO 0 rfl dX9_law_97 ?_
        refine sn_iconst hO kc_0 dX9_law_98 ?_
        refine sn_putI hO fmX9_206 atM_0 rfl rfl dX9_law_99 ?_
        refine sn_nmS (fun S11 => ?_)
        refine sn_aload_n hO 0 rfl dX9_law_102 ?_
        refine sn_getI hO fmX9_219 atM_0 dX9_law_103 ?_
        refine sn_if_eq hO 116 (by decide) dX9_law_106 ?_ ?_
        · refine sn_sipush hO ks_280 dX9_law_116 ?_
          refine sn_sipush hO ks_900 dX9_law_119 ?_
          refine sn_aload_n hO 0 rfl dX9_law_122 ?_
          refine sn_getF hO fmX9_13 atM_0 dX9_law_123 ?_
          refine sn_iconst hO kc_2 dX9_law_126 ?_
          refine sn_iald hO atM_2 rfl dX9_law_127 ?_
          refine sn_imul hO dX9_law_128 ?_
          refine sn_iadd hO dX9_law_129 ?_
          refine sn_nmI (fun x12 => ?_)
          refine sn_istore_n hO (lv' := [(1, .int x12), (0, .ref (w.2.2.1 0))]) (by decide) rfl dX9_law_130 ?_
          refine sn_aload_n hO 1 rfl dX9_law_131 ?_
          refine sn_getF hO fmX9_13 atM_0 dX9_law_132 ?_
          refine sn_iload_n hO 0 rfl dX9_law_135 ?_
          refine sn_iconst hO kc_1 dX9_law_136 ?_
          refine sn_iadd hO dX9_law_137 ?_
          refine sn_aload_n hO 1 rfl dX9_law_138 ?_
          refine sn_getI hO fmX9_333 atM_0 dX9_law_139 ?_
          refine sn_iast hO atM_2 rfl dX9_law_142 ?_
          refine sn_nmS (fun S13 => ?_)
          refine sn_iconst hO kc_0 dX9_law_143 ?_
          refine sn_istore_n hO (lv' := [(2, .int 0), (1, .int x12), (0, .ref (w.2.2.1 0))]) (by decide) rfl dX9_law_144 ?_
          refine sn_jn_walk (fun (k : sn_S → Prop) => ∀ (S14 : sn_S), k S14 → sn_G LoM w rmX9_law Qq sn_noE C 0 0 178 [(0, .ref (w.2.2.1 0)), (1, .int x12)] [] S14) ?_ ?_
          · intro S14
            refine sn_iconst hO kc_0 dX9_law_178 ?_
            refine sn_istore_n hO (lv' := [(2, .int 0), (0, .ref (w.2.2.1 0)), (1, .int x12)]) (by decide) rfl dX9_law_179 ?_
            refine sn_jn_walk (fun (k : sn_S → Prop) => ∀ (S16 : sn_S), k S16 → sn_G LoM w rmX9_law Qq sn_noE C 0 0 234 [(0, .ref (w.2.2.1 0))] [] S16) ?_ ?_
            · intro S16
              refine sn_aload_n hO 0 rfl dX9_law_234 ?_
              refine sn_getF hO fmX9_13 atM_0 dX9_law_235 ?_
              refine sn_iconst hO kc_2 dX9_law_238 ?_
              refine sn_dup2 hO rfl rfl dX9_law_239 ?_
              refine sn_iald hO atM_2 rfl dX9_law_240 ?_
              refine sn_iconst hO kc_1 dX9_law_241 ?_
              refine sn_iadd hO dX9_law_242 ?_
              refine sn_iast hO atM_2 rfl dX9_law_243 ?_
              refine sn_nmS (fun S18 => ?_)
              refine sn_aload_n hO 0 rfl dX9_law_244 ?_
              refine sn_aload_n hO 0 rfl dX9_law_245 ?_
              refine sn_getF hO fmX9_13 atM_0 dX9_law_246 ?_
              refine sn_iconst hO kc_2 dX9_law_249 ?_
              refine sn_iald hO atM_2 rfl dX9_law_250 ?_
              refine sn_iconst hO kc_1 dX9_law_251 ?_
              refine sn_isub hO dX9_law_252 ?_
              refine sn_callV hO (c2 := 0) (s2 := 0) [.int ((S18.1 2 (2 : Int32).toNatClampNeg) - 1)] cvX9_164 (fun _ => sn_Rv_K atM_0) ctX9_tell ⟨Nat.le_of_ble_eq_true rfl, Nat.le_of_ble_eq_true rfl⟩ rfl rfl (Nat.le_of_ble_eq_true rfl) ⟨Nat.le_of_ble_eq_true rfl, Nat.le_of_ble_eq_true rfl, rfl, rfl⟩ dX9_law_253 (sn_bI (fun r19 S20 => ?_)) sn_x0
              subst hQq
              exact sn_iret hO rfl dX9_law_256
            · intro k17 hk17
              refine sn_sub [1, 2, 0] rfl ?_
              refine sn_lp2_walk (Gd := fun (i21 : Int32) (S22 : sn_S) => sn_G LoM w rmX9_law Qq sn_noE C 0 0 180 [(0, .ref (w.2.2.1 0)), (1, .int x12), (2, .int i21)] [] S22) ?_ _ _
              intro rc23 hrc23 i21 S22
              refine sn_iload_n hO 2 rfl dX9_law_180 ?_
              refine sn_aload_n hO 0 rfl dX9_law_181 ?_
              refine sn_getI hO fmX9_258 atM_0 dX9_law_182 ?_
              refine sn_icmp_ge hO 234 (by decide) dX9_law_185 ?_ ?_
              · refine sn_sub [0] rfl ?_
                exact hk17 _
              · refine sn_aload_n hO 0 rfl dX9_law_188 ?_
                refine sn_getF hO fmX9_13 atM_0 dX9_law_189 ?_
                refine sn_iload_n hO 1 rfl dX9_law_192 ?_
                refine sn_bipush hO kb_98 dX9_law_193 ?_
                refine sn_iadd hO dX9_law_195 ?_
                refine sn_iconst hO kc_2 dX9_law_196 ?_
                refine sn_iload_n hO 2 rfl dX9_law_197 ?_
                refine sn_imul hO dX9_law_198 ?_
                refine sn_iadd hO dX9_law_199 ?_
                refine sn_aload_n hO 0 rfl dX9_law_200 ?_
                refine sn_getF hO fmX9_33 atM_0 dX9_law_201 ?_
                refine sn_iload_n hO 2 rfl dX9_law_204 ?_
                refine sn_iald hO atM_7 rfl dX9_law_205 ?_
                refine sn_iast hO atM_2 rfl dX9_law_206 ?_
                refine sn_nmS (fun S24 => ?_)
                refine sn_aload_n hO 0 rfl dX9_law_207 ?_
                refine sn_getF hO fmX9_13 atM_0 dX9_law_208 ?_
                refine sn_iload_n hO 1 rfl dX9_law_211 ?_
                refine sn_bipush hO kb_98 dX9_law_212 ?_
                refine sn_iadd hO dX9_law_214 ?_
                refine sn_iconst hO kc_2 dX9_law_215 ?_
                refine sn_iload_n hO 2 rfl dX9_law_216 ?_
                refine sn_imul hO dX9_law_217 ?_
                refine sn_iadd hO dX9_law_218 ?_
                refine sn_iconst hO kc_1 dX9_law_219 ?_
                refine sn_iadd hO dX9_law_220 ?_
                refine sn_aload_n hO 0 rfl dX9_law_221 ?_
                refine sn_getF hO fmX9_36 atM_0 dX9_law_222 ?_
                refine sn_iload_n hO 2 rfl dX9_law_225 ?_
                refine sn_iald hO atM_8 rfl dX9_law_226 ?_
                refine sn_iast hO atM_2 rfl dX9_law_227 ?_
                refine sn_nmS (fun S25 => ?_)
                refine sn_iinc hO (lv' := [(2, .int (i21 + 1)), (0, .ref (w.2.2.1 0)), (1, .int x12)]) 2 rfl ki_1 (by decide) rfl dX9_law_228 ?_
                refine sn_goto hO 180 (by decide) dX9_law_231 ?_
                refine sn_sub [1, 2, 0] rfl ?_
                exact hrc23 _ _
          · intro k15 hk15
            refine sn_sub [2, 1, 0] rfl ?_
            refine sn_lp2_walk (Gd := fun (i26 : Int32) (S27 : sn_S) => sn_G LoM w rmX9_law Qq sn_noE C 0 0 145 [(0, .ref (w.2.2.1 0)), (1, .int x12), (2, .int i26)] [] S27) ?_ _ _
            intro rc28 hrc28 i26 S27
            refine sn_iload_n hO 2 rfl dX9_law_145 ?_
            refine sn_bipush hO kb_8 dX9_law_146 ?_
            refine sn_aload_n hO 0 rfl dX9_law_148 ?_
            refine sn_getI hO fmX9_333 atM_0 dX9_law_149 ?_
            refine sn_imul hO dX9_law_152 ?_
            refine sn_icmp_ge hO 178 (by decide) dX9_law_153 ?_ ?_
            · refine sn_sub [0, 1] rfl ?_
              exact hk15 _
            · refine sn_aload_n hO 0 rfl dX9_law_156 ?_
              refine sn_getF hO fmX9_13 atM_0 dX9_law_157 ?_
              refine sn_iload_n hO 1 rfl dX9_law_160 ?_
              refine sn_iconst hO kc_2 dX9_law_161 ?_
              refine sn_iadd hO dX9_law_162 ?_
              refine sn_iload_n hO 2 rfl dX9_law_163 ?_
              refine sn_iadd hO dX9_law_164 ?_
              refine sn_aload_n hO 0 rfl dX9_law_165 ?_
              refine sn_getF hO fmX9_30 atM_0 dX9_law_166 ?_
              refine sn_iload_n hO 2 rfl dX9_law_169 ?_
              refine sn_iald hO atM_6 rfl dX9_law_170 ?_
              refine sn_iast hO atM_2 rfl dX9_law_171 ?_
              refine sn_nmS (fun S29 => ?_)
              refine sn_iinc hO (lv' := [(2, .int (i26 + 1)), (0, .ref (w.2.2.1 0)), (1, .int x12)]) 2 rfl ki_1 (by decide) rfl dX9_law_172 ?_
              refine sn_goto hO 145 (by decide) dX9_law_175 ?_
              refine sn_sub [1, 2, 0] rfl ?_
              exact hrc28 _ _
        · refine sn_aload_n hO 0 rfl dX9_law_109 ?_
          refine sn_bipush hO kb_m6 dX9_law_110 ?_
          refine sn_callV hO (c2 := 0) (s2 := 0) [.int (-6)] cvX9_164 (fun _ => sn_Rv_K atM_0) ctX9_tell ⟨Nat.le_of_ble_eq_true rfl, Nat.le_of_ble_eq_true rfl⟩ rfl rfl (Nat.le_of_ble_eq_true rfl) ⟨Nat.le_of_ble_eq_true rfl, Nat.le_of_ble_eq_true rfl, rfl, rfl⟩ dX9_law_112 (sn_bI (fun r30 S31 => ?_)) sn_x0
          subst hQq
          exact sn_iret hO rfl dX9_law_115
      · intro k10 hk10
        refine sn_if_ne hO 97 (by decide) dX9_law_82 ?_ ?_
        · exact hk10 _
        · refine sn_aload_n hO 0 rfl dX9_law_85 ?_
          refine sn_getI hO fmX9_239 atM_0 dX9_law_86 ?_
          refine sn_if_eq hO 97 (by decide) dX9_law_89 ?_ ?_
          · exact hk10 _
          · refine sn_aload_n hO 0 rfl dX9_law_92 ?_
            refine sn_iconst hO kc_0 dX9_law_93 ?_
            refine sn_callV hO (c2 := 0) (s2 := 0) [.int 0] cvX9_254 (fun _ => sn_Rv_K atM_0) ctX9_must ⟨Nat.le_of_ble_eq_true rfl, Nat.le_of_ble_eq_true rfl⟩ rfl rfl (Nat.le_of_ble_eq_true rfl) ⟨Nat.le_of_ble_eq_true rfl, Nat.le_of_ble_eq_true rfl, rfl, rfl⟩ dX9_law_94 (sn_bV (fun S32 => ?_)) sn_x0
            exact hk10 _
    · intro k8 hk8
      refine sn_lp1_walk (Gd := fun (S33 : sn_S) => sn_G LoM w rmX9_law Qq sn_noE C 0 0 51 [(0, .ref (w.2.2.1 0))] [] S33) ?_ _
      intro rc34 hrc34 S33
      refine sn_aload_n hO 0 rfl dX9_law_51 ?_
      refine sn_getI hO fmX9_219 atM_0 dX9_law_52 ?_
      refine sn_if_ne hO 78 (by decide) dX9_law_55 ?_ ?_
      · exact hk8 _
      · refine sn_aload_n hO 0 rfl dX9_law_58 ?_
        refine sn_bipush hO kb_59 dX9_law_59 ?_
        refine sn_callV hO (c2 := 0) (s2 := 0) [.int 59] cvX9_288 (fun _ => sn_Rv_K atM_0) ctX9_isSign ⟨Nat.le_of_ble_eq_true rfl, Nat.le_of_ble_eq_true rfl⟩ rfl rfl (Nat.le_of_ble_eq_true rfl) ⟨Nat.le_of_ble_eq_true rfl, Nat.le_of_ble_eq_true rfl, rfl, rfl⟩ dX9_law_61 (sn_bIp (fun r35 => ?_)) sn_x0
        refine sn_if_eq hO 78 (by decide) dX9_law_64 ?_ ?_
        · exact hk8 _
        · refine sn_aload_n hO 0 rfl dX9_law_67 ?_
          refine sn_callV hO (c2 := 0) (s2 := 0) [] cvX9_223 (fun _ => sn_Rv_K atM_0) ctX9_next ⟨Nat.le_of_ble_eq_true rfl, Nat.le_of_ble_eq_true rfl⟩ rfl rfl (Nat.le_of_ble_eq_true rfl) ⟨Nat.le_of_ble_eq_true rfl, Nat.le_of_ble_eq_true rfl, rfl, rfl⟩ dX9_law_68 (sn_bV (fun S36 => ?_)) sn_x0
          refine sn_aload_n hO 0 rfl dX9_law_71 ?_
          refine sn_callV hO (c2 := 0) (s2 := 0) [] cvX9_344 (fun _ => sn_Rv_K atM_0) ctX9_readClause ⟨Nat.le_of_ble_eq_true rfl, Nat.le_of_ble_eq_true rfl⟩ rfl rfl (Nat.le_of_ble_eq_true rfl) ⟨Nat.le_of_ble_eq_true rfl, Nat.le_of_ble_eq_true rfl, rfl, rfl⟩ dX9_law_72 (sn_bV (fun S37 => ?_)) sn_x0
          refine sn_goto hO 51 (by decide) dX9_law_75 ?_
          exact hrc34 _
  · refine sn_aload_n hO 0 rfl dX9_law_16 ?_
    refine sn_iconst hO kc_0 dX9_law_17 ?_
    refine sn_putI hO fmX9_206 atM_0 rfl rfl dX9_law_18 ?_
    refine sn_nmS (fun S38 => ?_)
    refine sn_aload_n hO 0 rfl dX9_law_21 ?_
    refine sn_bipush hO kb_m5 dX9_law_22 ?_
    refine sn_callV hO (c2 := 0) (s2 := 0) [.int (-5)] cvX9_164 (fun _ => sn_Rv_K atM_0) ctX9_tell ⟨Nat.le_of_ble_eq_true rfl, Nat.le_of_ble_eq_true rfl⟩ rfl rfl (Nat.le_of_ble_eq_true rfl) ⟨Nat.le_of_ble_eq_true rfl, Nat.le_of_ble_eq_true rfl, rfl, rfl⟩ dX9_law_24 (sn_bI (fun r39 S40 => ?_)) sn_x0
    subst hQq
    exact sn_iret hO rfl dX9_law_27
theorem ctX9_law {w : sn_W} {S : sn_S} {Q : Int32 → sn_S → Prop} (h : wpX9_law S Q) : sn_Ct LoM w yX9_law (ws_ yX9_law cX9_law 3 (some .int)) rmX9_law [.ref (w.2.2.1 0)] S (sn_qI Q) sn_noE := sn_Ct_of (LoM_X w) (by decide) (Nat.le_of_ble_eq_true rfl) RX9 rfl (fun C hO => wkX9_law hO S Q h)
def rmX9_force : Room := { frames := 2, cells := 0, slots := 0, locals := 44 }
/-- SnailPostModel.force(I)I -/
def wpX9_force (p1 : Int32) (S : sn_S) (Q : Int32 → sn_S → Prop) : Prop :=
  sn_lt (sn_pI S 0 0 0) (fun S1 => sn_jn (κ := Prop) (wpX9_change 3 p1 S1 (fun (r3 : Int32) (S4 : sn_S) => Q r3 S4)) (fun (k2 : Prop) => ((p1 = (-1) → k2) ∧ (¬ p1 = (-1) → (vp_in 2 5680 ∧ wpX9_in (Int32.toInt64 p1) 0 ((Int32.toInt64 (S1.1 2 (2 : Int32).toNatClampNeg)) - 1) (fun (r5 : Int32) => ((r5 = 0 → wpX9_tell (-2) S1 (fun (r6 : Int32) (S7 : sn_S) => Q r6 S7)) ∧ (¬ r5 = 0 → k2))))))))
theorem wkX9_force {w : sn_W} {C : sn_C} (hO : sn_Ok LoM w C RX9 cX9_force 2 (some .int) [] "force") (p1 : Int32) (S : sn_S) (Q : Int32 → sn_S → Prop) : wpX9_force p1 S Q → sn_G LoM w rmX9_force (sn_qI Q) sn_noE C 0 0 0 [(0, .ref (w.2.2.1 0)), (1, .int p1)] [] S := by
  unfold wpX9_force
  generalize hQq : (sn_qI Q) = Qq
  refine sn_aload_n hO 0 rfl dX9_force_0 ?_
  refine sn_iconst hO kc_0 dX9_force_1 ?_
  refine sn_putI hO fmX9_150 atM_0 rfl rfl dX9_force_2 ?_
  refine sn_nmS (fun S1 => ?_)
  refine sn_iload_n hO 1 rfl dX9_force_5 ?_
  refine sn_iconst hO kc_m1 dX9_force_6 ?_
  refine sn_jn_walk (fun (k : Prop) => k → sn_G LoM w rmX9_force Qq sn_noE C 0 0 28 [(0, .ref (w.2.2.1 0)), (1, .int p1)] [] S1) ?_ ?_
  · refine sn_aload_n hO 0 rfl dX9_force_28 ?_
    refine sn_iconst hO kc_3 dX9_force_29 ?_
    refine sn_iload_n hO 1 rfl dX9_force_30 ?_
    refine sn_callV hO (c2 := 0) (s2 := 0) [.int 3, .int p1] cvX9_179 (fun _ => sn_Rv_K atM_0) ctX9_change ⟨Nat.le_of_ble_eq_true rfl, Nat.le_of_ble_eq_true rfl⟩ rfl rfl (Nat.le_of_ble_eq_true rfl) ⟨Nat.le_of_ble_eq_true rfl, Nat.le_of_ble_eq_true rfl, rfl, rfl⟩ dX9_force_31 (sn_bI (fun r3 S4 => ?_)) sn_x0
    refine sn_goto hO 43 (by decide) dX9_force_34 ?_
    subst hQq
    exact sn_iret hO rfl dX9_force_43
  · intro k2 hk2
    refine sn_icmp_eq hO 28 (by decide) dX9_force_7 ?_ ?_
    · exact hk2
    · refine sn_iload_n hO 1 rfl dX9_force_10 ?_
      refine sn_i2l hO dX9_force_11 ?_
      refine sn_lconst hO (v := 0) rfl dX9_force_12 ?_
      refine sn_aload_n hO 0 rfl dX9_force_13 ?_
      refine sn_getF hO fmX9_13 atM_0 dX9_force_14 ?_
      refine sn_iconst hO kc_2 dX9_force_17 ?_
      refine sn_iald hO atM_2 rfl dX9_force_18 ?_
      refine sn_i2l hO dX9_force_19 ?_
      refine sn_lconst hO (v := 1) rfl dX9_force_20 ?_
      refine sn_lsub hO dX9_force_21 ?_
      refine sn_callS hO (c2 := 0) (s2 := 0) [.long (Int32.toInt64 p1), .long 0, .long ((Int32.toInt64 (S1.1 2 (2 : Int32).toNatClampNeg)) - 1)] csX9_160 ctX9_in ⟨Nat.le_of_ble_eq_true rfl, Nat.le_of_ble_eq_true rfl⟩ rfl rfl (Nat.le_of_ble_eq_true rfl) ⟨Nat.le_of_ble_eq_true rfl, Nat.le_of_ble_eq_true rfl, rfl, rfl⟩ dX9_force_22 (sn_bIp (fun r5 => ?_)) sn_x0
      refine sn_if_eq hO 37 (by decide) dX9_force_25 ?_ ?_
      · refine sn_aload_n hO 0 rfl dX9_force_37 ?_
        refine sn_bipush hO kb_m2 dX9_force_38 ?_
        refine sn_callV hO (c2 := 0) (s2 := 0) [.int (-2)] cvX9_164 (fun _ => sn_Rv_K atM_0) ctX9_tell ⟨Nat.le_of_ble_eq_true rfl, Nat.le_of_ble_eq_true rfl⟩ rfl rfl (Nat.le_of_ble_eq_true rfl) ⟨Nat.le_of_ble_eq_true rfl, Nat.le_of_ble_eq_true rfl, rfl, rfl⟩ dX9_force_40 (sn_bI (fun r6 S7 => ?_)) sn_x0
        subst hQq
        exact sn_iret hO rfl dX9_force_43
      · exact hk2
theorem ctX9_force {w : sn_W} {p1 : Int32} {S : sn_S} {Q : Int32 → sn_S → Prop} (h : wpX9_force p1 S Q) : sn_Ct LoM w yX9_force (ws_ yX9_force cX9_force 2 (some .int)) rmX9_force [.ref (w.2.2.1 0), .int p1] S (sn_qI Q) sn_noE := sn_Ct_of (LoM_X w) (by decide) (Nat.le_of_ble_eq_true rfl) RX9 rfl (fun C hO => wkX9_force hO p1 S Q h)
def rmX9_dawn : Room := { frames := 1, cells := 0, slots := 0, locals := 22 }
/-- SnailPostModel.dawn()V -/
def wpX9_dawn (S : sn_S) (Q : sn_S → Prop) : Prop :=
  sn_jn (fun (S1 : sn_S) => sn_lp2 (fun (rc5 : Int32 → sn_S → Prop) (i3 : Int32) (S4 : sn_S) => (vp_in 0 5680 ∧ (((S4.1 2 (0 : Int32).toNatClampNeg) ≤ i3 → Q S4) ∧ (¬ (S4.1 2 (0 : Int32).toNatClampNeg) ≤ i3 → wpX9_ofSnail i3 0 S4 (fun (r6 : Int32) => (vp_in i3 6 ∧ sn_lt (sn_pI S4 15 (i3).toNatClampNeg r6) (fun S7 => (vp_in i3 6 ∧ wpX9_ofSnail i3 1 S7 (fun (r8 : Int32) => sn_jn (fun (v9 : Int32) => (vp_in i3 6 ∧ sn_lt (sn_pI S7 16 (i3).toNatClampNeg v9) (fun S11 => (vp_in i3 6 ∧ sn_lt (sn_pI S11 17 (i3).toNatClampNeg (vp_nar .boolean 0)) (fun S12 => (vp_in i3 6 ∧ sn_lt (sn_pI S12 19 (i3).toNatClampNeg 0) (fun S13 => (vp_in i3 6 ∧ (vp_in (S13.1 15 (i3).toNatClampNeg) 96 ∧ (vp_in (S13.1 15 (i3).toNatClampNeg) 96 ∧ sn_lt (sn_pI S13 18 ((S13.1 15 (i3).toNatClampNeg)).toNatClampNeg ((S13.1 18 ((S13.1 15 (i3).toNatClampNeg)).toNatClampNeg) ||| (1 <<< (i3 &&& 31)))) (fun S14 => rc5 (i3 + 1) S14))))))))))) (fun (k10 : Int32 → Prop) => ((¬ (S7.1 15 (i3).toNatClampNeg) = r8 → k10 (-1)) ∧ ((S7.1 15 (i3).toNatClampNeg) = r8 → k10 0)))))))))))) 0 S1) (fun (k2 : sn_S → Prop) => sn_lp2 (fun (rc17 : Int32 → sn_S → Prop) (i15 : Int32) (S16 : sn_S) => ((96 ≤ i15 → k2 S16) ∧ (¬ 96 ≤ i15 → (vp_in i15 96 ∧ sn_lt (sn_pI S16 18 (i15).toNatClampNeg 0) (fun S18 => rc17 (i15 + 1) S18))))) 0 S)
theorem wkX9_dawn {w : sn_W} {C : sn_C} (hO : sn_Ok LoM w C RX9 cX9_dawn 2 none [] "dawn") (S : sn_S) (Q : sn_S → Prop) : wpX9_dawn S Q → sn_G LoM w rmX9_dawn (sn_qV Q) sn_noE C 0 0 0 [(0, .ref (w.2.2.1 0))] [] S := by
  unfold wpX9_dawn
  generalize hQq : (sn_qV Q) = Qq
  refine sn_iconst hO kc_0 dX9_dawn_0 ?_
  refine sn_istore_n hO (lv' := [(1, .int 0), (0, .ref (w.2.2.1 0))]) (by decide) rfl dX9_dawn_1 ?_
  refine sn_jn_walk (fun (k : sn_S → Prop) => ∀ (S1 : sn_S), k S1 → sn_G LoM w rmX9_dawn Qq sn_noE C 0 0 21 [(0, .ref (w.2.2.1 0))] [] S1) ?_ ?_
  · intro S1
    refine sn_iconst hO kc_0 dX9_dawn_21 ?_
    refine sn_istore_n hO (lv' := [(1, .int 0), (0, .ref (w.2.2.1 0))]) (by decide) rfl dX9_dawn_22 ?_
    refine sn_sub [1, 0] rfl ?_
    refine sn_lp2_walk (Gd := fun (i3 : Int32) (S4 : sn_S) => sn_G LoM w rmX9_dawn Qq sn_noE C 0 0 23 [(0, .ref (w.2.2.1 0)), (1, .int i3)] [] S4) ?_ _ _
    intro rc5 hrc5 i3 S4
    refine sn_iload_n hO 1 rfl dX9_dawn_23 ?_
    refine sn_aload_n hO 0 rfl dX9_dawn_24 ?_
    refine sn_getF hO fmX9_13 atM_0 dX9_dawn_25 ?_
    refine sn_iconst hO kc_0 dX9_dawn_28 ?_
    refine sn_iald hO atM_2 rfl dX9_dawn_29 ?_
    refine sn_icmp_ge hO 108 (by decide) dX9_dawn_30 ?_ ?_
    · subst hQq
      exact sn_vret hO rfl dX9_dawn_108
    · refine sn_aload_n hO 0 rfl dX9_dawn_33 ?_
      refine sn_getF hO fmX9_84 atM_0 dX9_dawn_34 ?_
      refine sn_iload_n hO 1 rfl dX9_dawn_37 ?_
      refine sn_aload_n hO 0 rfl dX9_dawn_38 ?_
      refine sn_iload_n hO 1 rfl dX9_dawn_39 ?_
      refine sn_iconst hO kc_0 dX9_dawn_40 ?_
      refine sn_callV hO (c2 := 0) (s2 := 0) [.int i3, .int 0] cvX9_169 (fun _ => sn_Rv_K atM_0) ctX9_ofSnail ⟨Nat.le_of_ble_eq_true rfl, Nat.le_of_ble_eq_true rfl⟩ rfl rfl (Nat.le_of_ble_eq_true rfl) ⟨Nat.le_of_ble_eq_true rfl, Nat.le_of_ble_eq_true rfl, rfl, rfl⟩ dX9_dawn_41 (sn_bIp (fun r6 => ?_)) sn_x0
      refine sn_iast hO atM_15 rfl dX9_dawn_44 ?_
      refine sn_nmS (fun S7 => ?_)
      refine sn_aload_n hO 0 rfl dX9_dawn_45 ?_
      refine sn_getF hO fmX9_87 atM_0 dX9_dawn_46 ?_
      refine sn_iload_n hO 1 rfl dX9_dawn_49 ?_
      refine sn_aload_n hO 0 rfl dX9_dawn_50 ?_
      refine sn_getF hO fmX9_84 atM_0 dX9_dawn_51 ?_
      refine sn_iload_n hO 1 rfl dX9_dawn_54 ?_
      refine sn_iald hO atM_15 rfl dX9_dawn_55 ?_
      refine sn_aload_n hO 0 rfl dX9_dawn_56 ?_
      refine sn_iload_n hO 1 rfl dX9_dawn_57 ?_
      refine sn_iconst hO kc_1 dX9_dawn_58 ?_
      refine sn_callV hO (c2 := 0) (s2 := 0) [.int i3, .int 1] cvX9_169 (fun _ => sn_Rv_K atM_0) ctX9_ofSnail ⟨Nat.le_of_ble_eq_true rfl, Nat.le_of_ble_eq_true rfl⟩ rfl rfl (Nat.le_of_ble_eq_true rfl) ⟨Nat.le_of_ble_eq_true rfl, Nat.le_of_ble_eq_true rfl, rfl, rfl⟩ dX9_dawn_59 (sn_bIp (fun r8 => ?_)) sn_x0
      refine sn_jn_walk (fun (k : Int32 → Prop) => ∀ (v9 : Int32), k v9 → sn_G LoM w rmX9_dawn Qq sn_noE C 0 0 70 [(0, .ref (w.2.2.1 0)), (1, .int i3)] [.int v9, .int i3, .ref (w.2.2.1 16)] S7) ?_ ?_
      · intro v9
        refine sn_iast hO atM_16 rfl dX9_dawn_70 ?_
        refine sn_nmS (fun S11 => ?_)
        refine sn_aload_n hO 0 rfl dX9_dawn_71 ?_
        refine sn_getF hO fmX9_90 atM_0 dX9_dawn_72 ?_
        refine sn_iload_n hO 1 rfl dX9_dawn_75 ?_
        refine sn_iconst hO kc_0 dX9_dawn_76 ?_
        refine sn_zast hO atM_17 rfl dX9_dawn_77 ?_
        refine sn_nmS (fun S12 => ?_)
        refine sn_aload_n hO 0 rfl dX9_dawn_78 ?_
        refine sn_getF hO fmX9_96 atM_0 dX9_dawn_79 ?_
        refine sn_iload_n hO 1 rfl dX9_dawn_82 ?_
        refine sn_iconst hO kc_0 dX9_dawn_83 ?_
        refine sn_iast hO atM_19 rfl dX9_dawn_84 ?_
        refine sn_nmS (fun S13 => ?_)
        refine sn_aload_n hO 0 rfl dX9_dawn_85 ?_
        refine sn_getF hO fmX9_93 atM_0 dX9_dawn_86 ?_
        refine sn_aload_n hO 0 rfl dX9_dawn_89 ?_
        refine sn_getF hO fmX9_84 atM_0 dX9_dawn_90 ?_
        refine sn_iload_n hO 1 rfl dX9_dawn_93 ?_
        refine sn_iald hO atM_15 rfl dX9_dawn_94 ?_
        refine sn_dup2 hO rfl rfl dX9_dawn_95 ?_
        refine sn_iald hO atM_18 rfl dX9_dawn_96 ?_
        refine sn_iconst hO kc_1 dX9_dawn_97 ?_
        refine sn_iload_n hO 1 rfl dX9_dawn_98 ?_
        refine sn_ishl hO dX9_dawn_99 ?_
        refine sn_ior hO dX9_dawn_100 ?_
        refine sn_iast hO atM_18 rfl dX9_dawn_101 ?_
        refine sn_nmS (fun S14 => ?_)
        refine sn_iinc hO (lv' := [(1, .int (i3 + 1)), (0, .ref (w.2.2.1 0))]) 1 rfl ki_1 (by decide) rfl dX9_dawn_102 ?_
        refine sn_goto hO 23 (by decide) dX9_dawn_105 ?_
        refine sn_sub [1, 0] rfl ?_
        exact hrc5 _ _
      · intro k10 hk10
        refine sn_icmp_ne hO 69 (by decide) dX9_dawn_62 ?_ ?_
        · refine sn_iconst hO kc_m1 dX9_dawn_69 ?_
          exact hk10 _
        · refine sn_iconst hO kc_0 dX9_dawn_65 ?_
          refine sn_goto hO 70 (by decide) dX9_dawn_66 ?_
          exact hk10 _
  · intro k2 hk2
    refine sn_sub [1, 0] rfl ?_
    refine sn_lp2_walk (Gd := fun (i15 : Int32) (S16 : sn_S) => sn_G LoM w rmX9_dawn Qq sn_noE C 0 0 2 [(0, .ref (w.2.2.1 0)), (1, .int i15)] [] S16) ?_ _ _
    intro rc17 hrc17 i15 S16
    refine sn_iload_n hO 1 rfl dX9_dawn_2 ?_
    refine sn_bipush hO kb_96 dX9_dawn_3 ?_
    refine sn_icmp_ge hO 21 (by decide) dX9_dawn_5 ?_ ?_
    · refine sn_sub [0] rfl ?_
      exact hk2 _
    · refine sn_aload_n hO 0 rfl dX9_dawn_8 ?_
      refine sn_getF hO fmX9_93 atM_0 dX9_dawn_9 ?_
      refine sn_iload_n hO 1 rfl dX9_dawn_12 ?_
      refine sn_iconst hO kc_0 dX9_dawn_13 ?_
      refine sn_iast hO atM_18 rfl dX9_dawn_14 ?_
      refine sn_nmS (fun S18 => ?_)
      refine sn_iinc hO (lv' := [(1, .int (i15 + 1)), (0, .ref (w.2.2.1 0))]) 1 rfl ki_1 (by decide) rfl dX9_dawn_15 ?_
      refine sn_goto hO 2 (by decide) dX9_dawn_18 ?_
      refine sn_sub [1, 0] rfl ?_
      exact hrc17 _ _
theorem ctX9_dawn {w : sn_W} {S : sn_S} {Q : sn_S → Prop} (h : wpX9_dawn S Q) : sn_Ct LoM w yX9_dawn (ws_ yX9_dawn cX9_dawn 2 none) rmX9_dawn [.ref (w.2.2.1 0)] S (sn_qV Q) sn_noE := sn_Ct_of (LoM_X w) (by decide) (Nat.le_of_ble_eq_true rfl) RX9 rfl (fun C hO => wkX9_dawn hO S Q h)
def rmX9_size : Room := { frames := 0, cells := 0, slots := 0, locals := 0 }
/-- SnailPostModel.size(I)I -/
def wpX9_size (p1 : Int32) (Q : Int32 → Prop) : Prop :=
  ((0 ≤ p1 → Q p1) ∧ (¬ 0 ≤ p1 → Q (-p1)))
theorem wkX9_size {w : sn_W} {C : sn_C} (hO : sn_Ok LoM w C RX9 cX9_size 1 (some .int) [] "size") (p1 : Int32) (S : sn_S) (Q : Int32 → Prop) : wpX9_size p1 Q → sn_G LoM w rmX9_size (sn_qI (fun r S1 => S1 = S ∧ Q r)) sn_noE C 0 0 0 [(0, .int p1)] [] S := by
  unfold wpX9_size
  generalize hQq : (sn_qI (fun r S1 => S1 = S ∧ Q r)) = Qq
  refine sn_iload_n hO 0 rfl dX9_size_0 ?_
  refine sn_if_ge hO 9 (by decide) dX9_size_1 ?_ ?_
  · refine sn_iload_n hO 0 rfl dX9_size_9 ?_
    subst hQq
    exact fun h => sn_iret hO rfl dX9_size_10 ⟨rfl, h⟩
  · refine sn_iload_n hO 0 rfl dX9_size_4 ?_
    refine sn_ineg hO dX9_size_5 ?_
    refine sn_goto hO 10 (by decide) dX9_size_6 ?_
    subst hQq
    exact fun h => sn_iret hO rfl dX9_size_10 ⟨rfl, h⟩
theorem ctX9_size {w : sn_W} {p1 : Int32} {S : sn_S} {Q : Int32 → Prop} (h : wpX9_size p1 Q) : sn_Ct LoM w yX9_size (ws_ yX9_size cX9_size 1 (some .int)) rmX9_size [.int p1] S (sn_qI (fun r S1 => S1 = S ∧ Q r)) sn_noE := sn_Ct_of (LoM_X w) (by decide) (Nat.le_of_ble_eq_true rfl) RX9 rfl (fun C hO => wkX9_size hO p1 S Q h)
def rmX9_apart : Room := { frames := 1, cells := 0, slots := 0, locals := 20 }
/-- SnailPostModel.apart(II)I -/
def wpX9_apart (p1 : Int32) (p2 : Int32) (Q : Int32 → Prop) : Prop :=
  wpX9_size ((p1 - p1 / 12 * 12) - (p2 - p2 / 12 * 12)) (fun (r1 : Int32) => wpX9_size ((p1 / 12) - (p2 / 12)) (fun (r2 : Int32) => Q (r1 + r2)))
theorem wkX9_apart {w : sn_W} {C : sn_C} (hO : sn_Ok LoM w C RX9 cX9_apart 2 (some .int) [] "apart") (p1 : Int32) (p2 : Int32) (S : sn_S) (Q : Int32 → Prop) : wpX9_apart p1 p2 Q → sn_G LoM w rmX9_apart (sn_qI (fun r S1 => S1 = S ∧ Q r)) sn_noE C 0 0 0 [(0, .int p1), (1, .int p2)] [] S := by
  unfold wpX9_apart
  generalize hQq : (sn_qI (fun r S1 => S1 = S ∧ Q r)) = Qq
  refine sn_iload_n hO 0 rfl dX9_apart_0 ?_
  refine sn_bipush hO kb_12 dX9_apart_1 ?_
  refine sn_irem hO (by decide) dX9_apart_3 ?_
  refine sn_iload_n hO 1 rfl dX9_apart_4 ?_
  refine sn_bipush hO kb_12 dX9_apart_5 ?_
  refine sn_irem hO (by decide) dX9_apart_7 ?_
  refine sn_isub hO dX9_apart_8 ?_
  refine sn_callS hO (c2 := 0) (s2 := 0) [.int ((p1 - p1 / 12 * 12) - (p2 - p2 / 12 * 12))] csX9_370 ctX9_size ⟨Nat.le_of_ble_eq_true rfl, Nat.le_of_ble_eq_true rfl⟩ rfl rfl (Nat.le_of_ble_eq_true rfl) ⟨Nat.le_of_ble_eq_true rfl, Nat.le_of_ble_eq_true rfl, rfl, rfl⟩ dX9_apart_9 (sn_bIp (fun r1 => ?_)) sn_x0
  refine sn_iload_n hO 0 rfl dX9_apart_12 ?_
  refine sn_bipush hO kb_12 dX9_apart_13 ?_
  refine sn_idiv hO (by decide) dX9_apart_15 ?_
  refine sn_iload_n hO 1 rfl dX9_apart_16 ?_
  refine sn_bipush hO kb_12 dX9_apart_17 ?_
  refine sn_idiv hO (by decide) dX9_apart_19 ?_
  refine sn_isub hO dX9_apart_20 ?_
  refine sn_callS hO (c2 := 0) (s2 := 0) [.int ((p1 / 12) - (p2 / 12))] csX9_370 ctX9_size ⟨Nat.le_of_ble_eq_true rfl, Nat.le_of_ble_eq_true rfl⟩ rfl rfl (Nat.le_of_ble_eq_true rfl) ⟨Nat.le_of_ble_eq_true rfl, Nat.le_of_ble_eq_true rfl, rfl, rfl⟩ dX9_apart_21 (sn_bIp (fun r2 => ?_)) sn_x0
  refine sn_iadd hO dX9_apart_24 ?_
  subst hQq
  exact fun h => sn_iret hO rfl dX9_apart_25 ⟨rfl, h⟩
theorem ctX9_apart {w : sn_W} {p1 : Int32} {p2 : Int32} {S : sn_S} {Q : Int32 → Prop} (h : wpX9_apart p1 p2 Q) : sn_Ct LoM w yX9_apart (ws_ yX9_apart cX9_apart 2 (some .int)) rmX9_apart [.int p1, .int p2] S (sn_qI (fun r S1 => S1 = S ∧ Q r)) sn_noE := sn_Ct_of (LoM_X w) (by decide) (Nat.le_of_ble_eq_true rfl) RX9 rfl (fun C hO => wkX9_apart hO p1 p2 S Q h)
def rmX9_lightIn : Room := { frames := 2, cells := 0, slots := 0, locals := 41 }
/-- SnailPostModel.lightIn(II)I -/
def wpX9_lightIn (p1 : Int32) (p2 : Int32) (S : sn_S) (Q : Int32 → Prop) : Prop :=
  sn_jn (fun (v1 : Int32) => ((0 ≤ v1 → Q v1) ∧ (¬ 0 ≤ v1 → Q 0))) (fun (k2 : Int32 → Prop) => ((¬ p2 = (-1) → (vp_in 6 5680 ∧ sn_jn (fun (v3 : Int32) => (vp_in (12 + v3) 5680 ∧ wpX9_apart p1 (S.1 2 ((12 + v3)).toNatClampNeg) (fun (r5 : Int32) => k2 ((S.1 2 (6 : Int32).toNatClampNeg) - r5)))) (fun (k4 : Int32 → Prop) => ((¬ p2 = (-1) → k4 p2) ∧ (p2 = (-1) → k4 0))))) ∧ (p2 = (-1) → k2 0)))
theorem wkX9_lightIn {w : sn_W} {C : sn_C} (hO : sn_Ok LoM w C RX9 cX9_lightIn 4 (some .int) [] "lightIn") (p1 : Int32) (p2 : Int32) (S : sn_S) (Q : Int32 → Prop) : wpX9_lightIn p1 p2 S Q → sn_G LoM w rmX9_lightIn (sn_qI (fun r S1 => S1 = S ∧ Q r)) sn_noE C 0 0 0 [(0, .ref (w.2.2.1 0)), (1, .int p1), (2, .int p2)] [] S := by
  unfold wpX9_lightIn
  generalize hQq : (sn_qI (fun r S1 => S1 = S ∧ Q r)) = Qq
  refine sn_iload_n hO 2 rfl dX9_lightIn_0 ?_
  refine sn_iconst hO kc_m1 dX9_lightIn_1 ?_
  refine sn_jn_walk (fun (k : Int32 → Prop) => ∀ (v1 : Int32), k v1 → sn_G LoM w rmX9_lightIn Qq sn_noE C 0 0 39 [] [.int v1] S) ?_ ?_
  · intro v1
    refine sn_istore_n hO (lv' := [(3, .int v1)]) (by decide) rfl dX9_lightIn_39 ?_
    refine sn_iload_n hO 0 rfl dX9_lightIn_40 ?_
    refine sn_if_ge hO 48 (by decide) dX9_lightIn_41 ?_ ?_
    · refine sn_iload_n hO 0 rfl dX9_lightIn_48 ?_
      subst hQq
      exact fun h => sn_iret hO rfl dX9_lightIn_49 ⟨rfl, h⟩
    · refine sn_iconst hO kc_0 dX9_lightIn_44 ?_
      refine sn_goto hO 49 (by decide) dX9_lightIn_45 ?_
      subst hQq
      exact fun h => sn_iret hO rfl dX9_lightIn_49 ⟨rfl, h⟩
  · intro k2 hk2
    refine sn_icmp_ne hO 9 (by decide) dX9_lightIn_2 ?_ ?_
    · refine sn_aload_n hO 0 rfl dX9_lightIn_9 ?_
      refine sn_getF hO fmX9_13 atM_0 dX9_lightIn_10 ?_
      refine sn_bipush hO kb_6 dX9_lightIn_13 ?_
      refine sn_iald hO atM_2 rfl dX9_lightIn_15 ?_
      refine sn_iload_n hO 1 rfl dX9_lightIn_16 ?_
      refine sn_aload_n hO 0 rfl dX9_lightIn_17 ?_
      refine sn_getF hO fmX9_13 atM_0 dX9_lightIn_18 ?_
      refine sn_bipush hO kb_12 dX9_lightIn_21 ?_
      refine sn_iload_n hO 2 rfl dX9_lightIn_23 ?_
      refine sn_iconst hO kc_m1 dX9_lightIn_24 ?_
      refine sn_jn_walk (fun (k : Int32 → Prop) => ∀ (v3 : Int32), k v3 → sn_G LoM w rmX9_lightIn Qq sn_noE C 0 0 33 [] [.int v3, .int 12, .ref (w.2.2.1 2), .int p1, .int (S.1 2 (6 : Int32).toNatClampNeg)] S) ?_ ?_
      · intro v3
        refine sn_iadd hO dX9_lightIn_33 ?_
        refine sn_iald hO atM_2 rfl dX9_lightIn_34 ?_
        refine sn_callS hO (c2 := 0) (s2 := 0) [.int p1, .int (S.1 2 ((12 + v3)).toNatClampNeg)] csX9_373 ctX9_apart ⟨Nat.le_of_ble_eq_true rfl, Nat.le_of_ble_eq_true rfl⟩ rfl rfl (Nat.le_of_ble_eq_true rfl) ⟨Nat.le_of_ble_eq_true rfl, Nat.le_of_ble_eq_true rfl, rfl, rfl⟩ dX9_lightIn_35 (sn_bIp (fun r5 => ?_)) sn_x0
        refine sn_isub hO dX9_lightIn_38 ?_
        exact hk2 _
      · intro k4 hk4
        refine sn_icmp_ne hO 32 (by decide) dX9_lightIn_25 ?_ ?_
        · refine sn_iload_n hO 2 rfl dX9_lightIn_32 ?_
          refine sn_sub [] rfl ?_
          exact hk4 _
        · refine sn_iconst hO kc_0 dX9_lightIn_28 ?_
          refine sn_goto hO 33 (by decide) dX9_lightIn_29 ?_
          refine sn_sub [] rfl ?_
          exact hk4 _
    · refine sn_iconst hO kc_0 dX9_lightIn_5 ?_
      refine sn_goto hO 39 (by decide) dX9_lightIn_6 ?_
      refine sn_sub [] rfl ?_
      exact hk2 _
theorem ctX9_lightIn {w : sn_W} {p1 : Int32} {p2 : Int32} {S : sn_S} {Q : Int32 → Prop} (h : wpX9_lightIn p1 p2 S Q) : sn_Ct LoM w yX9_lightIn (ws_ yX9_lightIn cX9_lightIn 4 (some .int)) rmX9_lightIn [.ref (w.2.2.1 0), .int p1, .int p2] S (sn_qI (fun r S1 => S1 = S ∧ Q r)) sn_noE := sn_Ct_of (LoM_X w) (by decide) (Nat.le_of_ble_eq_true rfl) RX9 rfl (fun C hO => wkX9_lightIn hO p1 p2 S Q h)
def rmX9_bits : Room := { frames := 0, cells := 0, slots := 0, locals := 0 }
/-- SnailPostModel.bits(I)I -/
def wpX9_bits (p1 : Int32) (Q : Int32 → Prop) : Prop :=
  sn_lp2 (fun (rc3 : Int32 → Int32 → Prop) (i1 : Int32) (i2 : Int32) => ((6 ≤ i2 → Q i1) ∧ (¬ 6 ≤ i2 → sn_lt (i1 + ((p1 >>> (i2 &&& 31)) &&& 1)) (fun x4 => rc3 x4 (i2 + 1))))) 0 0
theorem wkX9_bits {w : sn_W} {C : sn_C} (hO : sn_Ok LoM w C RX9 cX9_bits 3 (some .int) [] "bits") (p1 : Int32) (S : sn_S) (Q : Int32 → Prop) : wpX9_bits p1 Q → sn_G LoM w rmX9_bits (sn_qI (fun r S1 => S1 = S ∧ Q r)) sn_noE C 0 0 0 [(0, .int p1)] [] S := by
  unfold wpX9_bits
  generalize hQq : (sn_qI (fun r S1 => S1 = S ∧ Q r)) = Qq
  refine sn_iconst hO kc_0 dX9_bits_0 ?_
  refine sn_istore_n hO (lv' := [(1, .int 0), (0, .int p1)]) (by decide) rfl dX9_bits_1 ?_
  refine sn_iconst hO kc_0 dX9_bits_2 ?_
  refine sn_istore_n hO (lv' := [(2, .int 0), (1, .int 0), (0, .int p1)]) (by decide) rfl dX9_bits_3 ?_
  refine sn_sub [2, 1, 0] rfl ?_
  refine sn_lp2_walk (Gd := fun (i1 : Int32) (i2 : Int32) => sn_G LoM w rmX9_bits Qq sn_noE C 0 0 4 [(0, .int p1), (1, .int i1), (2, .int i2)] [] S) ?_ _ _
  intro rc3 hrc3 i1 i2
  refine sn_iload_n hO 2 rfl dX9_bits_4 ?_
  refine sn_bipush hO kb_6 dX9_bits_5 ?_
  refine sn_icmp_ge hO 24 (by decide) dX9_bits_7 ?_ ?_
  · refine sn_iload_n hO 1 rfl dX9_bits_24 ?_
    subst hQq
    exact fun h => sn_iret hO rfl dX9_bits_25 ⟨rfl, h⟩
  · refine sn_iload_n hO 1 rfl dX9_bits_10 ?_
    refine sn_iload_n hO 0 rfl dX9_bits_11 ?_
    refine sn_iload_n hO 2 rfl dX9_bits_12 ?_
    refine sn_ishr hO dX9_bits_13 ?_
    refine sn_iconst hO kc_1 dX9_bits_14 ?_
    refine sn_iand hO dX9_bits_15 ?_
    refine sn_iadd hO dX9_bits_16 ?_
    refine sn_nmI (fun x4 => ?_)
    refine sn_istore_n hO (lv' := [(1, .int x4), (0, .int p1), (2, .int i2)]) (by decide) rfl dX9_bits_17 ?_
    refine sn_iinc hO (lv' := [(2, .int (i2 + 1)), (1, .int x4), (0, .int p1)]) 2 rfl ki_1 (by decide) rfl dX9_bits_18 ?_
    refine sn_goto hO 4 (by decide) dX9_bits_21 ?_
    refine sn_sub [2, 1, 0] rfl ?_
    exact hrc3 _ _
theorem ctX9_bits {w : sn_W} {p1 : Int32} {S : sn_S} {Q : Int32 → Prop} (h : wpX9_bits p1 Q) : sn_Ct LoM w yX9_bits (ws_ yX9_bits cX9_bits 3 (some .int)) rmX9_bits [.int p1] S (sn_qI (fun r S1 => S1 = S ∧ Q r)) sn_noE := sn_Ct_of (LoM_X w) (by decide) (Nat.le_of_ble_eq_true rfl) RX9 rfl (fun C hO => wkX9_bits hO p1 S Q h)
def rmX9_reckon : Room := { frames := 0, cells := 0, slots := 0, locals := 0 }
/-- SnailPostModel.reckon(IJJ)J -/
def wpX9_reckon (p1 : Int32) (p2 : Int64) (p3 : Int64) (S : sn_S) (Q : Int64 → sn_S → Prop) : Prop :=
  sn_sw p1 20 [Q (p2 + p3) S, Q (p2 - p3) S, Q (p2 * p3) S, sn_jn (fun (v1 : Int32) => ((narrow .boolean (.int v1) = .int v1 ∧ fits .boolean (.int v1) = true) ∧ sn_lt (sn_pI S 0 30 v1) (fun S3 => (((S3.1 0 30) = 0 → (¬ p3 = 0 ∧ Q (p2 / p3) S3)) ∧ (¬ (S3.1 0 30) = 0 → Q 0 S3))))) (fun (k2 : Int32 → Prop) => ((¬ (lg_cmp p3 0) = 0 → k2 0) ∧ ((lg_cmp p3 0) = 0 → k2 1))), ((0 ≤ (lg_cmp p2 p3) → Q 0 S) ∧ (¬ 0 ≤ (lg_cmp p2 p3) → Q 1 S)), (((lg_cmp p2 p3) ≤ 0 → Q 0 S) ∧ (¬ (lg_cmp p2 p3) ≤ 0 → Q 1 S))] (((¬ (lg_cmp p2 p3) = 0 → Q 0 S) ∧ ((lg_cmp p2 p3) = 0 → Q 1 S)))
theorem wkX9_reckon {w : sn_W} {C : sn_C} (hO : sn_Ok LoM w C RX9 cX9_reckon 6 (some .long) [] "reckon") (p1 : Int32) (p2 : Int64) (p3 : Int64) (S : sn_S) (Q : Int64 → sn_S → Prop) : wpX9_reckon p1 p2 p3 S Q → sn_G LoM w rmX9_reckon (sn_qL Q) sn_noE C 0 0 0 [(0, .ref (w.2.2.1 0)), (1, .int p1), (2, .long p2), (4, .long p3)] [] S := by
  unfold wpX9_reckon
  generalize hQq : (sn_qL Q) = Qq
  refine sn_iload_n hO 1 rfl dX9_reckon_0 ?_
  refine sn_tsw hO [40, 45, 50, 55, 87, 100] 113 (by decide) (by decide) (by decide) dX9_reckon_1 ?_ ?_
  · refine ⟨?_, ?_, ?_, ?_, ?_, ?_, trivial⟩
    · refine sn_lload_n hO 2 rfl dX9_reckon_40 ?_
      refine sn_lload hO 3 rfl dX9_reckon_41 ?_
      refine sn_ladd hO dX9_reckon_43 ?_
      subst hQq
      exact sn_lret hO rfl dX9_reckon_44
    · refine sn_lload_n hO 2 rfl dX9_reckon_45 ?_
      refine sn_lload hO 3 rfl dX9_reckon_46 ?_
      refine sn_lsub hO dX9_reckon_48 ?_
      subst hQq
      exact sn_lret hO rfl dX9_reckon_49
    · refine sn_lload_n hO 2 rfl dX9_reckon_50 ?_
      refine sn_lload hO 3 rfl dX9_reckon_51 ?_
      refine sn_lmul hO dX9_reckon_53 ?_
      subst hQq
      exact sn_lret hO rfl dX9_reckon_54
    · refine sn_aload_n hO 0 rfl dX9_reckon_55 ?_
      refine sn_lload hO 3 rfl dX9_reckon_56 ?_
      refine sn_lconst hO (v := 0) rfl dX9_reckon_58 ?_
      refine sn_lcmp hO dX9_reckon_59 ?_
      refine sn_jn_walk (fun (k : Int32 → Prop) => ∀ (v1 : Int32), k v1 → sn_G LoM w rmX9_reckon Qq sn_noE C 0 0 68 [(0, .ref (w.2.2.1 0)), (2, .long p2), (4, .long p3)] [.int v1, .ref (w.2.2.1 0)] S) ?_ ?_
      · intro v1
        refine sn_putIP hO fmX9_347 atM_0 dX9_reckon_68 ?_
        refine sn_nmS (fun S3 => ?_)
        refine sn_aload_n hO 0 rfl dX9_reckon_71 ?_
        refine sn_getI hO fmX9_347 atM_0 dX9_reckon_72 ?_
        refine sn_if_eq hO 82 (by decide) dX9_reckon_75 ?_ ?_
        · refine sn_lload_n hO 1 rfl dX9_reckon_82 ?_
          refine sn_lload hO 2 rfl dX9_reckon_83 ?_
          refine sn_ldivP hO dX9_reckon_85 ?_
          subst hQq
          exact sn_lret hO rfl dX9_reckon_86
        · refine sn_lconst hO (v := 0) rfl dX9_reckon_78 ?_
          refine sn_goto hO 86 (by decide) dX9_reckon_79 ?_
          subst hQq
          exact sn_lret hO rfl dX9_reckon_86
      · intro k2 hk2
        refine sn_if_ne hO 67 (by decide) dX9_reckon_60 ?_ ?_
        · refine sn_iconst hO kc_0 dX9_reckon_67 ?_
          refine sn_sub [0, 2, 3] rfl ?_
          exact hk2 _
        · refine sn_iconst hO kc_1 dX9_reckon_63 ?_
          refine sn_goto hO 68 (by decide) dX9_reckon_64 ?_
          refine sn_sub [0, 2, 3] rfl ?_
          exact hk2 _
    · refine sn_lload_n hO 2 rfl dX9_reckon_87 ?_
      refine sn_lload hO 3 rfl dX9_reckon_88 ?_
      refine sn_lcmp hO dX9_reckon_90 ?_
      refine sn_if_ge hO 98 (by decide) dX9_reckon_91 ?_ ?_
      · refine sn_lconst hO (v := 0) rfl dX9_reckon_98 ?_
        subst hQq
        exact sn_lret hO rfl dX9_reckon_99
      · refine sn_lconst hO (v := 1) rfl dX9_reckon_94 ?_
        refine sn_goto hO 99 (by decide) dX9_reckon_95 ?_
        subst hQq
        exact sn_lret hO rfl dX9_reckon_99
    · refine sn_lload_n hO 2 rfl dX9_reckon_100 ?_
      refine sn_lload hO 3 rfl dX9_reckon_101 ?_
      refine sn_lcmp hO dX9_reckon_103 ?_
      refine sn_if_le hO 111 (by decide) dX9_reckon_104 ?_ ?_
      · refine sn_lconst hO (v := 0) rfl dX9_reckon_111 ?_
        subst hQq
        exact sn_lret hO rfl dX9_reckon_112
      · refine sn_lconst hO (v := 1) rfl dX9_reckon_107 ?_
        refine sn_goto hO 112 (by decide) dX9_reckon_108 ?_
        subst hQq
        exact sn_lret hO rfl dX9_reckon_112
  · refine sn_lload_n hO 2 rfl dX9_reckon_113 ?_
    refine sn_lload hO 3 rfl dX9_reckon_114 ?_
    refine sn_lcmp hO dX9_reckon_116 ?_
    refine sn_if_ne hO 124 (by decide) dX9_reckon_117 ?_ ?_
    · refine sn_lconst hO (v := 0) rfl dX9_reckon_124 ?_
      subst hQq
      exact sn_lret hO rfl dX9_reckon_125
    · refine sn_lconst hO (v := 1) rfl dX9_reckon_120 ?_
      refine sn_goto hO 125 (by decide) dX9_reckon_121 ?_
      subst hQq
      exact sn_lret hO rfl dX9_reckon_125
theorem ctX9_reckon {w : sn_W} {p1 : Int32} {p2 : Int64} {p3 : Int64} {S : sn_S} {Q : Int64 → sn_S → Prop} (h : wpX9_reckon p1 p2 p3 S Q) : sn_Ct LoM w yX9_reckon (ws_ yX9_reckon cX9_reckon 6 (some .long)) rmX9_reckon [.ref (w.2.2.1 0), .int p1, .long p2, .long p3] S (sn_qL Q) sn_noE := sn_Ct_of (LoM_X w) (by decide) (Nat.le_of_ble_eq_true rfl) RX9 rfl (fun C hO => wkX9_reckon hO p1 p2 p3 S Q h)
def rmX9_reckonAll : Room := { frames := 1, cells := 0, slots := 0, locals := 25 }
/-- SnailPostModel.reckonAll(II)V -/
def wpX9_reckonAll (p1 : Int32) (p2 : Int32) (S : sn_S) (Q : sn_S → Prop) : Prop :=
  sn_lt (sn_pI S 0 30 0) (fun S1 => sn_jn (fun (v2 : Int32) (S3 : sn_S) => ((v2 ≤ 0 → sn_lt (sn_pJ S3 0 31 0) (fun S5 => Q S5)) ∧ (¬ v2 ≤ 0 → (vp_in 0 400 ∧ sn_lt (sn_pJ S3 0 31 (S3.2.1 14 (0 : Int32).toNatClampNeg)) (fun S6 => Q S6))))) (fun (k4 : Int32 → sn_S → Prop) => sn_lp3 (fun (rc10 : Int32 → Int32 → sn_S → Prop) (i7 : Int32) (i8 : Int32) (S9 : sn_S) => ((p2 ≤ i8 → k4 i7 S9) ∧ (¬ p2 ≤ i8 → ((¬ (S9.1 0 30) = 0 → k4 i7 S9) ∧ ((S9.1 0 30) = 0 → (vp_in (((S9.1 0 27) + 98) + (2 * i8)) 5680 ∧ sn_lt (S9.1 2 ((((S9.1 0 27) + 98) + (2 * i8))).toNatClampNeg) (fun x11 => (vp_in ((((S9.1 0 27) + 98) + (2 * i8)) + 1) 5680 ∧ sn_lt (S9.1 2 (((((S9.1 0 27) + 98) + (2 * i8)) + 1)).toNatClampNeg) (fun x12 => sn_jn (fun (v13 : Int32) (v14 : Int32) (S15 : sn_S) => rc10 v13 v14 S15) (fun (k16 : Int32 → Int32 → sn_S → Prop) => ((20 ≤ x11 → ((27 ≤ x11 → ((¬ x11 = 27 → (vp_in (i7 - 1) 400 ∧ sn_jn (fun (v17 : Int64) => ((¬ (lg_cmp (S9.2.1 14 ((i7 - 1)).toNatClampNeg) v17) = 0 → k16 (i7 + (-1)) (i8 + 1) S9) ∧ ((lg_cmp (S9.2.1 14 ((i7 - 1)).toNatClampNeg) v17) = 0 → k16 i7 x12 S9))) (fun (k18 : Int64 → Prop) => ((¬ x11 = 28 → k18 1) ∧ (x11 = 28 → k18 0))))) ∧ (x11 = 27 → (vp_in (i7 - 1) 400 ∧ (vp_in (i7 - 1) 400 ∧ sn_lt (sn_pJ S9 14 ((i7 - 1)).toNatClampNeg (1 - (S9.2.1 14 ((i7 - 1)).toNatClampNeg))) (fun S19 => k16 i7 (i8 + 1) S19)))))) ∧ (¬ 27 ≤ x11 → (vp_in ((i7 + (-1)) - 1) 400 ∧ (vp_in (i7 + (-1)) 400 ∧ wpX9_reckon x11 (S9.2.1 14 (((i7 + (-1)) - 1)).toNatClampNeg) (S9.2.1 14 ((i7 + (-1))).toNatClampNeg) S9 (fun (r20 : Int64) (S21 : sn_S) => (vp_in ((i7 + (-1)) - 1) 400 ∧ sn_lt (sn_pJ S21 14 (((i7 + (-1)) - 1)).toNatClampNeg r20) (fun S22 => sn_jn (fun (v23 : Int32) => ((narrow .boolean (.int v23) = .int v23 ∧ fits .boolean (.int v23) = true) ∧ sn_lt (sn_pI S22 0 30 v23) (fun S25 => k16 (i7 + (-1)) (i8 + 1) S25))) (fun (k24 : Int32 → Prop) => sn_jn (κ := Prop) (k24 1) (fun (k26 : Prop) => ((¬ (S22.1 0 30) = 0 → k26) ∧ ((S22.1 0 30) = 0 → (vp_in ((i7 + (-1)) - 1) 400 ∧ wpX9_in (S22.2.1 14 (((i7 + (-1)) - 1)).toNatClampNeg) (-1000000000) 1000000000 (fun (r27 : Int32) => ((¬ r27 = 0 → k24 0) ∧ (r27 = 0 → k26)))))))))))))))) ∧ (¬ 20 ≤ x11 → sn_jn (fun (v28 : Int64) => (vp_in i7 400 ∧ sn_lt (sn_pJ S9 14 (i7).toNatClampNeg v28) (fun S30 => k16 (i7 + 1) (i8 + 1) S30))) (fun (k29 : Int64 → Prop) => ((¬ x11 = 0 → (vp_in x11 13 ∧ k29 (S9.2.1 13 (x11).toNatClampNeg))) ∧ (x11 = 0 → k29 (Int32.toInt64 x12)))))))))))))))) 0 p1 S1))
theorem wkX9_reckonAll {w : sn_W} {C : sn_C} (hO : sn_Ok LoM w C RX9 cX9_reckonAll 7 none [] "reckonAll") (p1 : Int32) (p2 : Int32) (S : sn_S) (Q : sn_S → Prop) : wpX9_reckonAll p1 p2 S Q → sn_G LoM w rmX9_reckonAll (sn_qV Q) sn_noE C 0 0 0 [(0, .ref (w.2.2.1 0)), (1, .int p1), (2, .int p2)] [] S := by
  unfold wpX9_reckonAll
  generalize hQq : (sn_qV Q) = Qq
  refine sn_aload_n hO 0 rfl dX9_reckonAll_0 ?_
  refine sn_iconst hO kc_0 dX9_reckonAll_1 ?_
  refine sn_putI hO fmX9_347 atM_0 rfl rfl dX9_reckonAll_2 ?_
  refine sn_nmS (fun S1 => ?_)
  refine sn_iconst hO kc_0 dX9_reckonAll_5 ?_
  refine sn_istore_n hO (lv' := [(3, .int 0), (0, .ref (w.2.2.1 0)), (1, .int p1), (2, .int p2)]) (by decide) rfl dX9_reckonAll_6 ?_
  refine sn_iload_n hO 2 rfl dX9_reckonAll_7 ?_
  refine sn_istore hO (lv' := [(4, .int p1), (3, .int 0), (0, .ref (w.2.2.1 0)), (1, .int p1), (2, .int p2)]) (by decide) rfl dX9_reckonAll_8 ?_
  refine sn_jn_walk (fun (k : Int32 → sn_S → Prop) => ∀ (v2 : Int32) (S3 : sn_S), k v2 S3 → sn_G LoM w rmX9_reckonAll Qq sn_noE C 0 0 245 [(0, .ref (w.2.2.1 0)), (3, .int v2)] [] S3) ?_ ?_
  · intro v2 S3
    refine sn_aload_n hO 0 rfl dX9_reckonAll_245 ?_
    refine sn_iload_n hO 1 rfl dX9_reckonAll_246 ?_
    refine sn_if_le hO 259 (by decide) dX9_reckonAll_247 ?_ ?_
    · refine sn_lconst hO (v := 0) rfl dX9_reckonAll_259 ?_
      refine sn_putJ hO fmX9_361 atM_0 rfl rfl dX9_reckonAll_260 ?_
      refine sn_nmS (fun S5 => ?_)
      subst hQq
      exact sn_vret hO rfl dX9_reckonAll_263
    · refine sn_aload_n hO 0 rfl dX9_reckonAll_250 ?_
      refine sn_getF hO fmX9_81 atM_0 dX9_reckonAll_251 ?_
      refine sn_iconst hO kc_0 dX9_reckonAll_254 ?_
      refine sn_lald hO atM_14 rfl dX9_reckonAll_255 ?_
      refine sn_goto hO 260 (by decide) dX9_reckonAll_256 ?_
      refine sn_putJ hO fmX9_361 atM_0 rfl rfl dX9_reckonAll_260 ?_
      refine sn_nmS (fun S6 => ?_)
      subst hQq
      exact sn_vret hO rfl dX9_reckonAll_263
  · intro k4 hk4
    refine sn_sub [2, 4, 1, 0] rfl ?_
    refine sn_lp3_walk (Gd := fun (i7 : Int32) (i8 : Int32) (S9 : sn_S) => sn_G LoM w rmX9_reckonAll Qq sn_noE C 0 0 10 [(0, .ref (w.2.2.1 0)), (2, .int p2), (3, .int i7), (4, .int i8)] [] S9) ?_ _ _ _
    intro rc10 hrc10 i7 i8 S9
    refine sn_iload hO 3 rfl dX9_reckonAll_10 ?_
    refine sn_iload_n hO 1 rfl dX9_reckonAll_12 ?_
    refine sn_icmp_ge hO 245 (by decide) dX9_reckonAll_13 ?_ ?_
    · refine sn_sub [0, 2] rfl ?_
      exact hk4 _ _
    · refine sn_aload_n hO 0 rfl dX9_reckonAll_16 ?_
      refine sn_getI hO fmX9_347 atM_0 dX9_reckonAll_17 ?_
      refine sn_if_ne hO 245 (by decide) dX9_reckonAll_20 ?_ ?_
      · refine sn_sub [0, 2] rfl ?_
        exact hk4 _ _
      · refine sn_aload_n hO 0 rfl dX9_reckonAll_23 ?_
        refine sn_getF hO fmX9_13 atM_0 dX9_reckonAll_24 ?_
        refine sn_aload_n hO 0 rfl dX9_reckonAll_27 ?_
        refine sn_getI hO fmX9_350 atM_0 dX9_reckonAll_28 ?_
        refine sn_bipush hO kb_98 dX9_reckonAll_31 ?_
        refine sn_iadd hO dX9_reckonAll_33 ?_
        refine sn_iconst hO kc_2 dX9_reckonAll_34 ?_
        refine sn_iload hO 3 rfl dX9_reckonAll_35 ?_
        refine sn_imul hO dX9_reckonAll_37 ?_
        refine sn_iadd hO dX9_reckonAll_38 ?_
        refine sn_iald hO atM_2 rfl dX9_reckonAll_39 ?_
        refine sn_nmI (fun x11 => ?_)
        refine sn_istore hO (lv' := [(5, .int x11), (0, .ref (w.2.2.1 0)), (2, .int p2), (3, .int i7), (4, .int i8)]) (by decide) rfl dX9_reckonAll_40 ?_
        refine sn_aload_n hO 1 rfl dX9_reckonAll_42 ?_
        refine sn_getF hO fmX9_13 atM_0 dX9_reckonAll_43 ?_
        refine sn_aload_n hO 1 rfl dX9_reckonAll_46 ?_
        refine sn_getI hO fmX9_350 atM_0 dX9_reckonAll_47 ?_
        refine sn_bipush hO kb_98 dX9_reckonAll_50 ?_
        refine sn_iadd hO dX9_reckonAll_52 ?_
        refine sn_iconst hO kc_2 dX9_reckonAll_53 ?_
        refine sn_iload hO 4 rfl dX9_reckonAll_54 ?_
        refine sn_imul hO dX9_reckonAll_56 ?_
        refine sn_iadd hO dX9_reckonAll_57 ?_
        refine sn_iconst hO kc_1 dX9_reckonAll_58 ?_
        refine sn_iadd hO dX9_reckonAll_59 ?_
        refine sn_iald hO atM_2 rfl dX9_reckonAll_60 ?_
        refine sn_nmI (fun x12 => ?_)
        refine sn_istore hO (lv' := [(6, .int x12), (5, .int x11), (0, .ref (w.2.2.1 0)), (2, .int p2), (3, .int i7), (4, .int i8)]) (by decide) rfl dX9_reckonAll_61 ?_
        refine sn_iinc hO (lv' := [(4, .int (i8 + 1)), (6, .int x12), (5, .int x11), (0, .ref (w.2.2.1 0)), (2, .int p2), (3, .int i7)]) 5 rfl ki_1 (by decide) rfl dX9_reckonAll_63 ?_
        refine sn_iload hO 2 rfl dX9_reckonAll_66 ?_
        refine sn_bipush hO kb_20 dX9_reckonAll_68 ?_
        refine sn_jn_walk (fun (k : Int32 → Int32 → sn_S → Prop) => ∀ (v13 : Int32) (v14 : Int32) (S15 : sn_S), k v13 v14 S15 → sn_G LoM w rmX9_reckonAll Qq sn_noE C 0 0 242 [(0, .ref (w.2.2.1 0)), (2, .int p2), (3, .int v13), (4, .int v14)] [] S15) ?_ ?_
        · intro v13 v14 S15
          refine sn_goto hO 10 (by decide) dX9_reckonAll_242 ?_
          exact hrc10 _ _ _
        · intro k16 hk16
          refine sn_icmp_ge hO 103 (by decide) dX9_reckonAll_70 ?_ ?_
          · refine sn_iload hO 2 rfl dX9_reckonAll_103 ?_
            refine sn_bipush hO kb_27 dX9_reckonAll_105 ?_
            refine sn_icmp_ge hO 180 (by decide) dX9_reckonAll_107 ?_ ?_
            · refine sn_iload hO 2 rfl dX9_reckonAll_180 ?_
              refine sn_bipush hO kb_27 dX9_reckonAll_182 ?_
              refine sn_icmp_ne hO 208 (by decide) dX9_reckonAll_184 ?_ ?_
              · refine sn_aload_n hO 3 rfl dX9_reckonAll_208 ?_
                refine sn_getF hO fmX9_81 atM_0 dX9_reckonAll_209 ?_
                refine sn_iload_n hO 5 rfl dX9_reckonAll_212 ?_
                refine sn_iconst hO kc_1 dX9_reckonAll_213 ?_
                refine sn_isub hO dX9_reckonAll_214 ?_
                refine sn_lald hO atM_14 rfl dX9_reckonAll_215 ?_
                refine sn_iload hO 2 rfl dX9_reckonAll_216 ?_
                refine sn_bipush hO kb_28 dX9_reckonAll_218 ?_
                refine sn_jn_walk (fun (k : Int64 → Prop) => ∀ (v17 : Int64), k v17 → sn_G LoM w rmX9_reckonAll Qq sn_noE C 0 0 228 [(0, .ref (w.2.2.1 0)), (2, .int p2), (3, .int i7), (4, .int (i8 + 1)), (6, .int x12)] [.long v17, .long (S9.2.1 14 ((i7 - 1)).toNatClampNeg)] S9) ?_ ?_
                · intro v17
                  refine sn_lcmp hO dX9_reckonAll_228 ?_
                  refine sn_if_ne hO 239 (by decide) dX9_reckonAll_229 ?_ ?_
                  · refine sn_iinc hO (lv' := [(3, .int (i7 + (-1))), (0, .ref (w.2.2.1 0)), (2, .int p2), (4, .int (i8 + 1)), (6, .int x12)]) 2 rfl ki_m1 (by decide) rfl dX9_reckonAll_239 ?_
                    refine sn_sub [1, 2, 0, 3] rfl ?_
                    exact hk16 _ _ _
                  · refine sn_iload hO 4 rfl dX9_reckonAll_232 ?_
                    refine sn_istore hO (lv' := [(4, .int x12), (0, .ref (w.2.2.1 0)), (2, .int p2), (3, .int i7), (6, .int x12)]) (by decide) rfl dX9_reckonAll_234 ?_
                    refine sn_goto hO 242 (by decide) dX9_reckonAll_236 ?_
                    refine sn_sub [1, 2, 3, 0] rfl ?_
                    exact hk16 _ _ _
                · intro k18 hk18
                  refine sn_icmp_ne hO 227 (by decide) dX9_reckonAll_220 ?_ ?_
                  · refine sn_lconst hO (v := 1) rfl dX9_reckonAll_227 ?_
                    refine sn_sub [3, 4, 5, 0, 1] rfl ?_
                    exact hk18 _
                  · refine sn_lconst hO (v := 0) rfl dX9_reckonAll_223 ?_
                    refine sn_goto hO 228 (by decide) dX9_reckonAll_224 ?_
                    refine sn_sub [3, 4, 5, 0, 1] rfl ?_
                    exact hk18 _
              · refine sn_aload_n hO 3 rfl dX9_reckonAll_187 ?_
                refine sn_getF hO fmX9_81 atM_0 dX9_reckonAll_188 ?_
                refine sn_iload_n hO 5 rfl dX9_reckonAll_191 ?_
                refine sn_iconst hO kc_1 dX9_reckonAll_192 ?_
                refine sn_isub hO dX9_reckonAll_193 ?_
                refine sn_lconst hO (v := 1) rfl dX9_reckonAll_194 ?_
                refine sn_aload_n hO 3 rfl dX9_reckonAll_195 ?_
                refine sn_getF hO fmX9_81 atM_0 dX9_reckonAll_196 ?_
                refine sn_iload_n hO 5 rfl dX9_reckonAll_199 ?_
                refine sn_iconst hO kc_1 dX9_reckonAll_200 ?_
                refine sn_isub hO dX9_reckonAll_201 ?_
                refine sn_lald hO atM_14 rfl dX9_reckonAll_202 ?_
                refine sn_lsub hO dX9_reckonAll_203 ?_
                refine sn_last hO atM_14 rfl dX9_reckonAll_204 ?_
                refine sn_nmS (fun S19 => ?_)
                refine sn_goto hO 242 (by decide) dX9_reckonAll_205 ?_
                refine sn_sub [3, 4, 5, 0] rfl ?_
                exact hk16 _ _ _
            · refine sn_iinc hO (lv' := [(3, .int (i7 + (-1))), (4, .int (i8 + 1)), (6, .int x12), (5, .int x11), (0, .ref (w.2.2.1 0)), (2, .int p2)]) 5 rfl ki_m1 (by decide) rfl dX9_reckonAll_110 ?_
              refine sn_aload_n hO 4 rfl dX9_reckonAll_113 ?_
              refine sn_getF hO fmX9_81 atM_0 dX9_reckonAll_114 ?_
              refine sn_iload_n hO 0 rfl dX9_reckonAll_117 ?_
              refine sn_iconst hO kc_1 dX9_reckonAll_118 ?_
              refine sn_isub hO dX9_reckonAll_119 ?_
              refine sn_aload_n hO 4 rfl dX9_reckonAll_120 ?_
              refine sn_iload hO 3 rfl dX9_reckonAll_121 ?_
              refine sn_aload_n hO 4 rfl dX9_reckonAll_123 ?_
              refine sn_getF hO fmX9_81 atM_0 dX9_reckonAll_124 ?_
              refine sn_iload_n hO 0 rfl dX9_reckonAll_127 ?_
              refine sn_iconst hO kc_1 dX9_reckonAll_128 ?_
              refine sn_isub hO dX9_reckonAll_129 ?_
              refine sn_lald hO atM_14 rfl dX9_reckonAll_130 ?_
              refine sn_aload_n hO 4 rfl dX9_reckonAll_131 ?_
              refine sn_getF hO fmX9_81 atM_0 dX9_reckonAll_132 ?_
              refine sn_iload_n hO 0 rfl dX9_reckonAll_135 ?_
              refine sn_lald hO atM_14 rfl dX9_reckonAll_136 ?_
              refine sn_callV hO (c2 := 0) (s2 := 0) [.int x11, .long (S9.2.1 14 (((i7 + (-1)) - 1)).toNatClampNeg), .long (S9.2.1 14 ((i7 + (-1))).toNatClampNeg)] cvX9_353 (fun _ => sn_Rv_K atM_0) ctX9_reckon ⟨Nat.le_of_ble_eq_true rfl, Nat.le_of_ble_eq_true rfl⟩ rfl rfl (Nat.le_of_ble_eq_true rfl) ⟨Nat.le_of_ble_eq_true rfl, Nat.le_of_ble_eq_true rfl, rfl, rfl⟩ dX9_reckonAll_137 (sn_bL (fun r20 S21 => ?_)) sn_x0
              refine sn_last hO atM_14 rfl dX9_reckonAll_140 ?_
              refine sn_nmS (fun S22 => ?_)
              refine sn_aload_n hO 4 rfl dX9_reckonAll_141 ?_
              refine sn_aload_n hO 4 rfl dX9_reckonAll_142 ?_
              refine sn_getI hO fmX9_347 atM_0 dX9_reckonAll_143 ?_
              refine sn_jn_walk (fun (k : Int32 → Prop) => ∀ (v23 : Int32), k v23 → sn_G LoM w rmX9_reckonAll Qq sn_noE C 0 0 174 [(0, .ref (w.2.2.1 0)), (2, .int p2), (3, .int (i7 + (-1))), (4, .int (i8 + 1))] [.int v23, .ref (w.2.2.1 0)] S22) ?_ ?_
              · intro v23
                refine sn_putIP hO fmX9_347 atM_0 dX9_reckonAll_174 ?_
                refine sn_nmS (fun S25 => ?_)
                refine sn_goto hO 242 (by decide) dX9_reckonAll_177 ?_
                exact hk16 _ _ _
              · intro k24 hk24
                refine sn_jn_walk (fun (k : Prop) => k → sn_G LoM w rmX9_reckonAll Qq sn_noE C 0 0 169 [(0, .ref (w.2.2.1 0)), (2, .int p2), (3, .int (i7 + (-1))), (4, .int (i8 + 1))] [.ref (w.2.2.1 0)] S22) ?_ ?_
                · refine sn_iconst hO kc_1 dX9_reckonAll_169 ?_
                  refine sn_goto hO 174 (by decide) dX9_reckonAll_170 ?_
                  exact hk24 _
                · intro k26 hk26
                  refine sn_if_ne hO 169 (by decide) dX9_reckonAll_146 ?_ ?_
                  · refine sn_sub [4, 5, 0, 1] rfl ?_
                    exact hk26
                  · refine sn_aload_n hO 4 rfl dX9_reckonAll_149 ?_
                    refine sn_getF hO fmX9_81 atM_0 dX9_reckonAll_150 ?_
                    refine sn_iload_n hO 0 rfl dX9_reckonAll_153 ?_
                    refine sn_iconst hO kc_1 dX9_reckonAll_154 ?_
                    refine sn_isub hO dX9_reckonAll_155 ?_
                    refine sn_lald hO atM_14 rfl dX9_reckonAll_156 ?_
                    refine sn_ldc2 hO q1900 dX9_reckonAll_157 ?_
                    refine sn_ldc2 hO q1901 dX9_reckonAll_160 ?_
                    refine sn_callS hO (c2 := 0) (s2 := 0) [.long (S22.2.1 14 (((i7 + (-1)) - 1)).toNatClampNeg), .long (-1000000000), .long 1000000000] csX9_160 ctX9_in ⟨Nat.le_of_ble_eq_true rfl, Nat.le_of_ble_eq_true rfl⟩ rfl rfl (Nat.le_of_ble_eq_true rfl) ⟨Nat.le_of_ble_eq_true rfl, Nat.le_of_ble_eq_true rfl, rfl, rfl⟩ dX9_reckonAll_163 (sn_bIp (fun r27 => ?_)) sn_x0
                    refine sn_if_ne hO 173 (by decide) dX9_reckonAll_166 ?_ ?_
                    · refine sn_iconst hO kc_0 dX9_reckonAll_173 ?_
                      refine sn_sub [4, 5, 0, 1] rfl ?_
                      exact hk24 _
                    · refine sn_sub [4, 5, 0, 1] rfl ?_
                      exact hk26
          · refine sn_aload_n hO 3 rfl dX9_reckonAll_73 ?_
            refine sn_getF hO fmX9_81 atM_0 dX9_reckonAll_74 ?_
            refine sn_iload_n hO 5 rfl dX9_reckonAll_77 ?_
            refine sn_iload hO 2 rfl dX9_reckonAll_78 ?_
            refine sn_jn_walk (fun (k : Int64 → Prop) => ∀ (v28 : Int64), k v28 → sn_G LoM w rmX9_reckonAll Qq sn_noE C 0 0 96 [(0, .ref (w.2.2.1 0)), (2, .int p2), (3, .int i7), (4, .int (i8 + 1))] [.long v28, .int i7, .ref (w.2.2.1 14)] S9) ?_ ?_
            · intro v28
              refine sn_last hO atM_14 rfl dX9_reckonAll_96 ?_
              refine sn_nmS (fun S30 => ?_)
              refine sn_iinc hO (lv' := [(3, .int (i7 + 1)), (0, .ref (w.2.2.1 0)), (2, .int p2), (4, .int (i8 + 1))]) 2 rfl ki_1 (by decide) rfl dX9_reckonAll_97 ?_
              refine sn_goto hO 242 (by decide) dX9_reckonAll_100 ?_
              refine sn_sub [1, 2, 0, 3] rfl ?_
              exact hk16 _ _ _
            · intro k29 hk29
              refine sn_if_ne hO 89 (by decide) dX9_reckonAll_80 ?_ ?_
              · refine sn_aload_n hO 3 rfl dX9_reckonAll_89 ?_
                refine sn_getF hO fmX9_78 atM_0 dX9_reckonAll_90 ?_
                refine sn_iload hO 2 rfl dX9_reckonAll_93 ?_
                refine sn_lald hO atM_13 rfl dX9_reckonAll_95 ?_
                refine sn_sub [3, 4, 5, 0] rfl ?_
                exact hk29 _
              · refine sn_iload hO 1 rfl dX9_reckonAll_83 ?_
                refine sn_i2l hO dX9_reckonAll_85 ?_
                refine sn_goto hO 96 (by decide) dX9_reckonAll_86 ?_
                refine sn_sub [3, 4, 5, 0] rfl ?_
                exact hk29 _
theorem ctX9_reckonAll {w : sn_W} {p1 : Int32} {p2 : Int32} {S : sn_S} {Q : sn_S → Prop} (h : wpX9_reckonAll p1 p2 S Q) : sn_Ct LoM w yX9_reckonAll (ws_ yX9_reckonAll cX9_reckonAll 7 none) rmX9_reckonAll [.ref (w.2.2.1 0), .int p1, .int p2] S (sn_qV Q) sn_noE := sn_Ct_of (LoM_X w) (by decide) (Nat.le_of_ble_eq_true rfl) RX9 rfl (fun C hO => wkX9_reckonAll hO p1 p2 S Q h)
def rmX9_isSo : Room := { frames := 2, cells := 0, slots := 0, locals := 51 }
/-- SnailPostModel.isSo(I)Z -/
def wpX9_isSo (p1 : Int32) (S : sn_S) (Q : Int32 → sn_S → Prop) : Prop :=
  (vp_in (p1 + 5) 5680 ∧ (vp_in (p1 + 6) 5680 ∧ sn_jn (fun (S1 : sn_S) => (vp_in p1 5680 ∧ ((2 ≤ (S1.1 2 (p1).toNatClampNeg) → Q 1 S1) ∧ (¬ 2 ≤ (S1.1 2 (p1).toNatClampNeg) → (vp_in (p1 + 3) 5680 ∧ (vp_in (p1 + 4) 5680 ∧ wpX9_reckonAll (S1.1 2 ((p1 + 3)).toNatClampNeg) (S1.1 2 ((p1 + 4)).toNatClampNeg) S1 (fun (S3 : sn_S) => sn_lt (sn_pJ S3 0 32 (S3.2.1 0 31)) (fun S4 => ((¬ (S4.1 0 30) = 0 → Q 0 S4) ∧ ((S4.1 0 30) = 0 → Q 1 S4)))))))))) (fun (k2 : sn_S → Prop) => (((S.1 2 ((p1 + 6)).toNatClampNeg) ≤ (S.1 2 ((p1 + 5)).toNatClampNeg) → k2 S) ∧ (¬ (S.1 2 ((p1 + 6)).toNatClampNeg) ≤ (S.1 2 ((p1 + 5)).toNatClampNeg) → (vp_in (p1 + 5) 5680 ∧ (vp_in (p1 + 6) 5680 ∧ wpX9_reckonAll (S.1 2 ((p1 + 5)).toNatClampNeg) (S.1 2 ((p1 + 6)).toNatClampNeg) S (fun (S5 : sn_S) => ((¬ (S5.1 0 30) = 0 → Q 0 S5) ∧ ((S5.1 0 30) = 0 → ((¬ (lg_cmp (S5.2.1 0 31) 0) = 0 → k2 S5) ∧ ((lg_cmp (S5.2.1 0 31) 0) = 0 → Q 0 S5))))))))))))
theorem wkX9_isSo {w : sn_W} {C : sn_C} (hO : sn_Ok LoM w C RX9 cX9_isSo 2 (some .boolean) [] "isSo") (p1 : Int32) (S : sn_S) (Q : Int32 → sn_S → Prop) : wpX9_isSo p1 S Q → sn_G LoM w rmX9_isSo (sn_qI Q) sn_noE C 0 0 0 [(0, .ref (w.2.2.1 0)), (1, .int p1)] [] S := by
  unfold wpX9_isSo
  generalize hQq : (sn_qI Q) = Qq
  refine sn_aload_n hO 0 rfl dX9_isSo_0 ?_
  refine sn_getF hO fmX9_13 atM_0 dX9_isSo_1 ?_
  refine sn_iload_n hO 1 rfl dX9_isSo_4 ?_
  refine sn_iconst hO kc_5 dX9_isSo_5 ?_
  refine sn_iadd hO dX9_isSo_6 ?_
  refine sn_iald hO atM_2 rfl dX9_isSo_7 ?_
  refine sn_aload_n hO 0 rfl dX9_isSo_8 ?_
  refine sn_getF hO fmX9_13 atM_0 dX9_isSo_9 ?_
  refine sn_iload_n hO 1 rfl dX9_isSo_12 ?_
  refine sn_bipush hO kb_6 dX9_isSo_13 ?_
  refine sn_iadd hO dX9_isSo_15 ?_
  refine sn_iald hO atM_2 rfl dX9_isSo_16 ?_
  refine sn_jn_walk (fun (k : sn_S → Prop) => ∀ (S1 : sn_S), k S1 → sn_G LoM w rmX9_isSo Qq sn_noE C 0 0 59 [(0, .ref (w.2.2.1 0)), (1, .int p1)] [] S1) ?_ ?_
  · intro S1
    refine sn_aload_n hO 0 rfl dX9_isSo_59 ?_
    refine sn_getF hO fmX9_13 atM_0 dX9_isSo_60 ?_
    refine sn_iload_n hO 1 rfl dX9_isSo_63 ?_
    refine sn_iald hO atM_2 rfl dX9_isSo_64 ?_
    refine sn_iconst hO kc_2 dX9_isSo_65 ?_
    refine sn_icmp_ge hO 110 (by decide) dX9_isSo_66 ?_ ?_
    · refine sn_iconst hO kc_1 dX9_isSo_110 ?_
      subst hQq
      exact sn_zret hO (ty := .boolean) rfl rfl dX9_isSo_111
    · refine sn_aload_n hO 0 rfl dX9_isSo_69 ?_
      refine sn_aload_n hO 0 rfl dX9_isSo_70 ?_
      refine sn_getF hO fmX9_13 atM_0 dX9_isSo_71 ?_
      refine sn_iload_n hO 1 rfl dX9_isSo_74 ?_
      refine sn_iconst hO kc_3 dX9_isSo_75 ?_
      refine sn_iadd hO dX9_isSo_76 ?_
      refine sn_iald hO atM_2 rfl dX9_isSo_77 ?_
      refine sn_aload_n hO 0 rfl dX9_isSo_78 ?_
      refine sn_getF hO fmX9_13 atM_0 dX9_isSo_79 ?_
      refine sn_iload_n hO 1 rfl dX9_isSo_82 ?_
      refine sn_iconst hO kc_4 dX9_isSo_83 ?_
      refine sn_iadd hO dX9_isSo_84 ?_
      refine sn_iald hO atM_2 rfl dX9_isSo_85 ?_
      refine sn_callV hO (c2 := 0) (s2 := 0) [.int (S1.1 2 ((p1 + 3)).toNatClampNeg), .int (S1.1 2 ((p1 + 4)).toNatClampNeg)] cvX9_364 (fun _ => sn_Rv_K atM_0) ctX9_reckonAll ⟨Nat.le_of_ble_eq_true rfl, Nat.le_of_ble_eq_true rfl⟩ rfl rfl (Nat.le_of_ble_eq_true rfl) ⟨Nat.le_of_ble_eq_true rfl, Nat.le_of_ble_eq_true rfl, rfl, rfl⟩ dX9_isSo_86 (sn_bV (fun S3 => ?_)) sn_x0
      refine sn_aload_n hO 0 rfl dX9_isSo_89 ?_
      refine sn_aload_n hO 0 rfl dX9_isSo_90 ?_
      refine sn_getJ hO fmX9_361 atM_0 dX9_isSo_91 ?_
      refine sn_putJ hO fmX9_367 atM_0 rfl rfl dX9_isSo_94 ?_
      refine sn_nmS (fun S4 => ?_)
      refine sn_aload_n hO 0 rfl dX9_isSo_97 ?_
      refine sn_getI hO fmX9_347 atM_0 dX9_isSo_98 ?_
      refine sn_if_ne hO 108 (by decide) dX9_isSo_101 ?_ ?_
      · refine sn_iconst hO kc_0 dX9_isSo_108 ?_
        subst hQq
        exact sn_zret hO (ty := .boolean) rfl rfl dX9_isSo_109
      · refine sn_iconst hO kc_1 dX9_isSo_104 ?_
        refine sn_goto hO 109 (by decide) dX9_isSo_105 ?_
        subst hQq
        exact sn_zret hO (ty := .boolean) rfl rfl dX9_isSo_109
  · intro k2 hk2
    refine sn_icmp_ge hO 59 (by decide) dX9_isSo_17 ?_ ?_
    · exact hk2 _
    · refine sn_aload_n hO 0 rfl dX9_isSo_20 ?_
      refine sn_aload_n hO 0 rfl dX9_isSo_21 ?_
      refine sn_getF hO fmX9_13 atM_0 dX9_isSo_22 ?_
      refine sn_iload_n hO 1 rfl dX9_isSo_25 ?_
      refine sn_iconst hO kc_5 dX9_isSo_26 ?_
      refine sn_iadd hO dX9_isSo_27 ?_
      refine sn_iald hO atM_2 rfl dX9_isSo_28 ?_
      refine sn_aload_n hO 0 rfl dX9_isSo_29 ?_
      refine sn_getF hO fmX9_13 atM_0 dX9_isSo_30 ?_
      refine sn_iload_n hO 1 rfl dX9_isSo_33 ?_
      refine sn_bipush hO kb_6 dX9_isSo_34 ?_
      refine sn_iadd hO dX9_isSo_36 ?_
      refine sn_iald hO atM_2 rfl dX9_isSo_37 ?_
      refine sn_callV hO (c2 := 0) (s2 := 0) [.int (S.1 2 ((p1 + 5)).toNatClampNeg), .int (S.1 2 ((p1 + 6)).toNatClampNeg)] cvX9_364 (fun _ => sn_Rv_K atM_0) ctX9_reckonAll ⟨Nat.le_of_ble_eq_true rfl, Nat.le_of_ble_eq_true rfl⟩ rfl rfl (Nat.le_of_ble_eq_true rfl) ⟨Nat.le_of_ble_eq_true rfl, Nat.le_of_ble_eq_true rfl, rfl, rfl⟩ dX9_isSo_38 (sn_bV (fun S5 => ?_)) sn_x0
      refine sn_aload_n hO 0 rfl dX9_isSo_41 ?_
      refine sn_getI hO fmX9_347 atM_0 dX9_isSo_42 ?_
      refine sn_if_ne hO 57 (by decide) dX9_isSo_45 ?_ ?_
      · refine sn_iconst hO kc_0 dX9_isSo_57 ?_
        subst hQq
        exact sn_zret hO (ty := .boolean) rfl rfl dX9_isSo_58
      · refine sn_aload_n hO 0 rfl dX9_isSo_48 ?_
        refine sn_getJ hO fmX9_361 atM_0 dX9_isSo_49 ?_
        refine sn_lconst hO (v := 0) rfl dX9_isSo_52 ?_
        refine sn_lcmp hO dX9_isSo_53 ?_
        refine sn_if_ne hO 59 (by decide) dX9_isSo_54 ?_ ?_
        · exact hk2 _
        · refine sn_iconst hO kc_0 dX9_isSo_57 ?_
          subst hQq
          exact sn_zret hO (ty := .boolean) rfl rfl dX9_isSo_58
theorem ctX9_isSo {w : sn_W} {p1 : Int32} {S : sn_S} {Q : Int32 → sn_S → Prop} (h : wpX9_isSo p1 S Q) : sn_Ct LoM w yX9_isSo (ws_ yX9_isSo cX9_isSo 2 (some .boolean)) rmX9_isSo [.ref (w.2.2.1 0), .int p1] S (sn_qI Q) sn_noE := sn_Ct_of (LoM_X w) (by decide) (Nat.le_of_ble_eq_true rfl) RX9 rfl (fun C hO => wkX9_isSo hO p1 S Q h)
def rmX9_tells : Room := { frames := 3, cells := 0, slots := 0, locals := 72 }
/-- SnailPostModel.tells(IIIIIJ)J -/
def wpX9_tells (p1 : Int32) (p2 : Int32) (p3 : Int32) (p4 : Int32) (p5 : Int32) (p6 : Int64) (S : sn_S) (Q : Int64 → sn_S → Prop) : Prop :=
  (vp_in 3 5680 ∧ ((¬ (S.1 2 (3 : Int32).toNatClampNeg) = (-1) → (vp_in 3 5680 ∧ sn_lt (sn_pI S 0 27 (280 + (900 * (S.1 2 (3 : Int32).toNatClampNeg)))) (fun S1 => (vp_in p3 96 ∧ sn_lt ((S1.1 18 (p3).toNatClampNeg) &&& ((1 <<< (p2 &&& 31)) ^^^ (-1))) (fun x2 => (vp_in 1 13 ∧ sn_lt (sn_pJ S1 13 (1 : Int32).toNatClampNeg (Int32.toInt64 p2)) (fun S3 => wpX9_ofSnail p2 3 S3 (fun (r4 : Int32) => (vp_in 2 13 ∧ sn_lt (sn_pJ S3 13 (2 : Int32).toNatClampNeg (Int32.toInt64 r4)) (fun S5 => (vp_in (80 + p3) 5680 ∧ (vp_in 3 13 ∧ sn_lt (sn_pJ S5 13 (3 : Int32).toNatClampNeg (Int32.toInt64 (S5.1 2 ((80 + p3)).toNatClampNeg))) (fun S6 => wpX9_lightIn p3 p5 S6 (fun (r7 : Int32) => (vp_in 4 13 ∧ sn_lt (sn_pJ S6 13 (4 : Int32).toNatClampNeg (Int32.toInt64 r7)) (fun S8 => wpX9_bits x2 (fun (r9 : Int32) => (vp_in 5 13 ∧ sn_lt (sn_pJ S8 13 (5 : Int32).toNatClampNeg (Int32.toInt64 r9)) (fun S10 => (vp_in p3 96 ∧ (vp_in 6 13 ∧ sn_lt (sn_pJ S10 13 (6 : Int32).toNatClampNeg (Int32.toInt64 (((S10.1 18 (p3).toNatClampNeg) >>> (p2 &&& 31)) &&& 1))) (fun S11 => (vp_in p2 6 ∧ sn_jn (fun (v12 : Int64) => (vp_in 7 13 ∧ sn_lt (sn_pJ S11 13 (7 : Int32).toNatClampNeg v12) (fun S14 => (vp_in 8 13 ∧ sn_lt (sn_pJ S14 13 (8 : Int32).toNatClampNeg (Int32.toInt64 p4)) (fun S15 => (vp_in 9 13 ∧ sn_lt (sn_pJ S15 13 (9 : Int32).toNatClampNeg (Int32.toInt64 (p3 - p3 / 12 * 12))) (fun S16 => (vp_in 10 13 ∧ sn_lt (sn_pJ S16 13 (10 : Int32).toNatClampNeg (Int32.toInt64 (p3 / 12))) (fun S17 => sn_lp3 (fun (rc21 : Int64 → Int32 → sn_S → Prop) (i18 : Int64) (i19 : Int32) (S20 : sn_S) => (vp_in ((S20.1 0 27) + 1) 5680 ∧ (((S20.1 2 (((S20.1 0 27) + 1)).toNatClampNeg) ≤ i19 → Q i18 S20) ∧ (¬ (S20.1 2 (((S20.1 0 27) + 1)).toNatClampNeg) ≤ i19 → sn_lt (((S20.1 0 27) + 2) + (8 * i19)) (fun x22 => (vp_in x22 5680 ∧ sn_jn (fun (v23 : Int64) (S24 : sn_S) => rc21 v23 (i19 + 1) S24) (fun (k25 : Int64 → sn_S → Prop) => ((¬ (S20.1 2 (x22).toNatClampNeg) = p1 → k25 i18 S20) ∧ ((S20.1 2 (x22).toNatClampNeg) = p1 → wpX9_isSo x22 S20 (fun (r26 : Int32) (S27 : sn_S) => ((r26 = 0 → k25 i18 S27) ∧ (¬ r26 = 0 → sn_jn (fun (v28 : Int64) => k25 v28 S27) (fun (k29 : Int64 → Prop) => ((2 ≤ p1 → k29 1) ∧ (¬ 2 ≤ p1 → k29 (S27.2.1 0 32)))))))))))))))) p6 0 S17))))))))) (fun (k13 : Int64 → Prop) => ((¬ (S11.1 15 (p2).toNatClampNeg) = p3 → k13 0) ∧ ((S11.1 15 (p2).toNatClampNeg) = p3 → k13 1)))))))))))))))))))))))))) ∧ ((S.1 2 (3 : Int32).toNatClampNeg) = (-1) → Q p6 S)))
theorem wkX9_tells {w : sn_W} {C : sn_C} (hO : sn_Ok LoM w C RX9 cX9_tells 13 (some .long) [] "tells") (p1 : Int32) (p2 : Int32) (p3 : Int32) (p4 : Int32) (p5 : Int32) (p6 : Int64) (S : sn_S) (Q : Int64 → sn_S → Prop) : wpX9_tells p1 p2 p3 p4 p5 p6 S Q → sn_G LoM w rmX9_tells (sn_qL Q) sn_noE C 0 0 0 [(0, .ref (w.2.2.1 0)), (1, .int p1), (2, .int p2), (3, .int p3), (4, .int p4), (5, .int p5), (6, .long p6)] [] S := by
  unfold wpX9_tells
  generalize hQq : (sn_qL Q) = Qq
  refine sn_aload_n hO 0 rfl dX9_tells_0 ?_
  refine sn_getF hO fmX9_13 atM_0 dX9_tells_1 ?_
  refine sn_iconst hO kc_3 dX9_tells_4 ?_
  refine sn_iald hO atM_2 rfl dX9_tells_5 ?_
  refine sn_iconst hO kc_m1 dX9_tells_6 ?_
  refine sn_icmp_ne hO 13 (by decide) dX9_tells_7 ?_ ?_
  · refine sn_aload_n hO 0 rfl dX9_tells_13 ?_
    refine sn_sipush hO ks_280 dX9_tells_14 ?_
    refine sn_sipush hO ks_900 dX9_tells_17 ?_
    refine sn_aload_n hO 0 rfl dX9_tells_20 ?_
    refine sn_getF hO fmX9_13 atM_0 dX9_tells_21 ?_
    refine sn_iconst hO kc_3 dX9_tells_24 ?_
    refine sn_iald hO atM_2 rfl dX9_tells_25 ?_
    refine sn_imul hO dX9_tells_26 ?_
    refine sn_iadd hO dX9_tells_27 ?_
    refine sn_putI hO fmX9_350 atM_0 rfl rfl dX9_tells_28 ?_
    refine sn_nmS (fun S1 => ?_)
    refine sn_aload_n hO 0 rfl dX9_tells_31 ?_
    refine sn_getF hO fmX9_93 atM_0 dX9_tells_32 ?_
    refine sn_iload_n hO 3 rfl dX9_tells_35 ?_
    refine sn_iald hO atM_18 rfl dX9_tells_36 ?_
    refine sn_iconst hO kc_1 dX9_tells_37 ?_
    refine sn_iload_n hO 2 rfl dX9_tells_38 ?_
    refine sn_ishl hO dX9_tells_39 ?_
    refine sn_iconst hO kc_m1 dX9_tells_40 ?_
    refine sn_ixor hO dX9_tells_41 ?_
    refine sn_iand hO dX9_tells_42 ?_
    refine sn_nmI (fun x2 => ?_)
    refine sn_istore hO (lv' := [(8, .int x2), (0, .ref (w.2.2.1 0)), (1, .int p1), (2, .int p2), (3, .int p3), (4, .int p4), (5, .int p5), (6, .long p6)]) (by decide) rfl dX9_tells_43 ?_
    refine sn_aload_n hO 1 rfl dX9_tells_45 ?_
    refine sn_getF hO fmX9_78 atM_0 dX9_tells_46 ?_
    refine sn_iconst hO kc_1 dX9_tells_49 ?_
    refine sn_iload_n hO 3 rfl dX9_tells_50 ?_
    refine sn_i2l hO dX9_tells_51 ?_
    refine sn_last hO atM_13 rfl dX9_tells_52 ?_
    refine sn_nmS (fun S3 => ?_)
    refine sn_aload_n hO 1 rfl dX9_tells_53 ?_
    refine sn_getF hO fmX9_78 atM_0 dX9_tells_54 ?_
    refine sn_iconst hO kc_2 dX9_tells_57 ?_
    refine sn_aload_n hO 1 rfl dX9_tells_58 ?_
    refine sn_iload_n hO 3 rfl dX9_tells_59 ?_
    refine sn_iconst hO kc_3 dX9_tells_60 ?_
    refine sn_callV hO (c2 := 0) (s2 := 0) [.int p2, .int 3] cvX9_169 (fun _ => sn_Rv_K atM_0) ctX9_ofSnail ⟨Nat.le_of_ble_eq_true rfl, Nat.le_of_ble_eq_true rfl⟩ rfl rfl (Nat.le_of_ble_eq_true rfl) ⟨Nat.le_of_ble_eq_true rfl, Nat.le_of_ble_eq_true rfl, rfl, rfl⟩ dX9_tells_61 (sn_bIp (fun r4 => ?_)) sn_x0
    refine sn_i2l hO dX9_tells_64 ?_
    refine sn_last hO atM_13 rfl dX9_tells_65 ?_
    refine sn_nmS (fun S5 => ?_)
    refine sn_aload_n hO 1 rfl dX9_tells_66 ?_
    refine sn_getF hO fmX9_78 atM_0 dX9_tells_67 ?_
    refine sn_iconst hO kc_3 dX9_tells_70 ?_
    refine sn_aload_n hO 1 rfl dX9_tells_71 ?_
    refine sn_getF hO fmX9_13 atM_0 dX9_tells_72 ?_
    refine sn_bipush hO kb_80 dX9_tells_75 ?_
    refine sn_iload_n hO 4 rfl dX9_tells_77 ?_
    refine sn_iadd hO dX9_tells_78 ?_
    refine sn_iald hO atM_2 rfl dX9_tells_79 ?_
    refine sn_i2l hO dX9_tells_80 ?_
    refine sn_last hO atM_13 rfl dX9_tells_81 ?_
    refine sn_nmS (fun S6 => ?_)
    refine sn_aload_n hO 1 rfl dX9_tells_82 ?_
    refine sn_getF hO fmX9_78 atM_0 dX9_tells_83 ?_
    refine sn_iconst hO kc_4 dX9_tells_86 ?_
    refine sn_aload_n hO 1 rfl dX9_tells_87 ?_
    refine sn_iload_n hO 4 rfl dX9_tells_88 ?_
    refine sn_iload hO 6 rfl dX9_tells_89 ?_
    refine sn_callV hO (c2 := 0) (s2 := 0) [.int p3, .int p5] cvX9_376 (fun _ => sn_Rv_K atM_0) ctX9_lightIn ⟨Nat.le_of_ble_eq_true rfl, Nat.le_of_ble_eq_true rfl⟩ rfl rfl (Nat.le_of_ble_eq_true rfl) ⟨Nat.le_of_ble_eq_true rfl, Nat.le_of_ble_eq_true rfl, rfl, rfl⟩ dX9_tells_91 (sn_bIp (fun r7 => ?_)) sn_x0
    refine sn_i2l hO dX9_tells_94 ?_
    refine sn_last hO atM_13 rfl dX9_tells_95 ?_
    refine sn_nmS (fun S8 => ?_)
    refine sn_aload_n hO 1 rfl dX9_tells_96 ?_
    refine sn_getF hO fmX9_78 atM_0 dX9_tells_97 ?_
    refine sn_iconst hO kc_5 dX9_tells_100 ?_
    refine sn_iload hO 0 rfl dX9_tells_101 ?_
    refine sn_callS hO (c2 := 0) (s2 := 0) [.int x2] csX9_379 ctX9_bits ⟨Nat.le_of_ble_eq_true rfl, Nat.le_of_ble_eq_true rfl⟩ rfl rfl (Nat.le_of_ble_eq_true rfl) ⟨Nat.le_of_ble_eq_true rfl, Nat.le_of_ble_eq_true rfl, rfl, rfl⟩ dX9_tells_103 (sn_bIp (fun r9 => ?_)) sn_x0
    refine sn_i2l hO dX9_tells_106 ?_
    refine sn_last hO atM_13 rfl dX9_tells_107 ?_
    refine sn_nmS (fun S10 => ?_)
    refine sn_aload_n hO 1 rfl dX9_tells_108 ?_
    refine sn_getF hO fmX9_78 atM_0 dX9_tells_109 ?_
    refine sn_bipush hO kb_6 dX9_tells_112 ?_
    refine sn_aload_n hO 1 rfl dX9_tells_114 ?_
    refine sn_getF hO fmX9_93 atM_0 dX9_tells_115 ?_
    refine sn_iload_n hO 4 rfl dX9_tells_118 ?_
    refine sn_iald hO atM_18 rfl dX9_tells_119 ?_
    refine sn_iload_n hO 3 rfl dX9_tells_120 ?_
    refine sn_ishr hO dX9_tells_121 ?_
    refine sn_iconst hO kc_1 dX9_tells_122 ?_
    refine sn_iand hO dX9_tells_123 ?_
    refine sn_i2l hO dX9_tells_124 ?_
    refine sn_last hO atM_13 rfl dX9_tells_125 ?_
    refine sn_nmS (fun S11 => ?_)
    refine sn_aload_n hO 1 rfl dX9_tells_126 ?_
    refine sn_getF hO fmX9_78 atM_0 dX9_tells_127 ?_
    refine sn_bipush hO kb_7 dX9_tells_130 ?_
    refine sn_aload_n hO 1 rfl dX9_tells_132 ?_
    refine sn_getF hO fmX9_84 atM_0 dX9_tells_133 ?_
    refine sn_iload_n hO 3 rfl dX9_tells_136 ?_
    refine sn_iald hO atM_15 rfl dX9_tells_137 ?_
    refine sn_iload_n hO 4 rfl dX9_tells_138 ?_
    refine sn_jn_walk (fun (k : Int64 → Prop) => ∀ (v12 : Int64), k v12 → sn_G LoM w rmX9_tells Qq sn_noE C 0 0 147 [(0, .ref (w.2.2.1 0)), (1, .int p1), (3, .int p3), (4, .int p4), (6, .long p6)] [.long v12, .int 7, .ref (w.2.2.1 13)] S11) ?_ ?_
    · intro v12
      refine sn_last hO atM_13 rfl dX9_tells_147 ?_
      refine sn_nmS (fun S14 => ?_)
      refine sn_aload_n hO 0 rfl dX9_tells_148 ?_
      refine sn_getF hO fmX9_78 atM_0 dX9_tells_149 ?_
      refine sn_bipush hO kb_8 dX9_tells_152 ?_
      refine sn_iload hO 3 rfl dX9_tells_154 ?_
      refine sn_i2l hO dX9_tells_156 ?_
      refine sn_last hO atM_13 rfl dX9_tells_157 ?_
      refine sn_nmS (fun S15 => ?_)
      refine sn_aload_n hO 0 rfl dX9_tells_158 ?_
      refine sn_getF hO fmX9_78 atM_0 dX9_tells_159 ?_
      refine sn_bipush hO kb_9 dX9_tells_162 ?_
      refine sn_iload_n hO 2 rfl dX9_tells_164 ?_
      refine sn_bipush hO kb_12 dX9_tells_165 ?_
      refine sn_irem hO (by decide) dX9_tells_167 ?_
      refine sn_i2l hO dX9_tells_168 ?_
      refine sn_last hO atM_13 rfl dX9_tells_169 ?_
      refine sn_nmS (fun S16 => ?_)
      refine sn_aload_n hO 0 rfl dX9_tells_170 ?_
      refine sn_getF hO fmX9_78 atM_0 dX9_tells_171 ?_
      refine sn_bipush hO kb_10 dX9_tells_174 ?_
      refine sn_iload_n hO 2 rfl dX9_tells_176 ?_
      refine sn_bipush hO kb_12 dX9_tells_177 ?_
      refine sn_idiv hO (by decide) dX9_tells_179 ?_
      refine sn_i2l hO dX9_tells_180 ?_
      refine sn_last hO atM_13 rfl dX9_tells_181 ?_
      refine sn_nmS (fun S17 => ?_)
      refine sn_lload hO 4 rfl dX9_tells_182 ?_
      refine sn_lstore hO (lv' := [(9, .long p6), (0, .ref (w.2.2.1 0)), (1, .int p1), (3, .int p3), (4, .int p4), (6, .long p6)]) (by decide) rfl dX9_tells_184 ?_
      refine sn_iconst hO kc_0 dX9_tells_186 ?_
      refine sn_istore hO (lv' := [(11, .int 0), (9, .long p6), (0, .ref (w.2.2.1 0)), (1, .int p1), (3, .int p3), (4, .int p4), (6, .long p6)]) (by decide) rfl dX9_tells_187 ?_
      refine sn_sub [2, 3, 1, 0] rfl ?_
      refine sn_lp3_walk (Gd := fun (i18 : Int64) (i19 : Int32) (S20 : sn_S) => sn_G LoM w rmX9_tells Qq sn_noE C 0 0 189 [(0, .ref (w.2.2.1 0)), (1, .int p1), (9, .long i18), (11, .int i19)] [] S20) ?_ _ _ _
      intro rc21 hrc21 i18 i19 S20
      refine sn_iload hO 3 rfl dX9_tells_189 ?_
      refine sn_aload_n hO 0 rfl dX9_tells_191 ?_
      refine sn_getF hO fmX9_13 atM_0 dX9_tells_192 ?_
      refine sn_aload_n hO 0 rfl dX9_tells_195 ?_
      refine sn_getI hO fmX9_350 atM_0 dX9_tells_196 ?_
      refine sn_iconst hO kc_1 dX9_tells_199 ?_
      refine sn_iadd hO dX9_tells_200 ?_
      refine sn_iald hO atM_2 rfl dX9_tells_201 ?_
      refine sn_icmp_ge hO 260 (by decide) dX9_tells_202 ?_ ?_
      · refine sn_lload hO 2 rfl dX9_tells_260 ?_
        subst hQq
        exact sn_lret hO rfl dX9_tells_262
      · refine sn_aload_n hO 0 rfl dX9_tells_205 ?_
        refine sn_getI hO fmX9_350 atM_0 dX9_tells_206 ?_
        refine sn_iconst hO kc_2 dX9_tells_209 ?_
        refine sn_iadd hO dX9_tells_210 ?_
        refine sn_bipush hO kb_8 dX9_tells_211 ?_
        refine sn_iload hO 3 rfl dX9_tells_213 ?_
        refine sn_imul hO dX9_tells_215 ?_
        refine sn_iadd hO dX9_tells_216 ?_
        refine sn_nmI (fun x22 => ?_)
        refine sn_istore hO (lv' := [(12, .int x22), (0, .ref (w.2.2.1 0)), (1, .int p1), (9, .long i18), (11, .int i19)]) (by decide) rfl dX9_tells_217 ?_
        refine sn_aload_n hO 1 rfl dX9_tells_219 ?_
        refine sn_getF hO fmX9_13 atM_0 dX9_tells_220 ?_
        refine sn_iload hO 0 rfl dX9_tells_223 ?_
        refine sn_iald hO atM_2 rfl dX9_tells_225 ?_
        refine sn_iload_n hO 2 rfl dX9_tells_226 ?_
        refine sn_jn_walk (fun (k : Int64 → sn_S → Prop) => ∀ (v23 : Int64) (S24 : sn_S), k v23 S24 → sn_G LoM w rmX9_tells Qq sn_noE C 0 0 254 [(0, .ref (w.2.2.1 0)), (1, .int p1), (9, .long v23), (11, .int i19)] [] S24) ?_ ?_
        · intro v23 S24
          refine sn_iinc hO (lv' := [(11, .int (i19 + 1)), (0, .ref (w.2.2.1 0)), (1, .int p1), (9, .long v23)]) 3 rfl ki_1 (by decide) rfl dX9_tells_254 ?_
          refine sn_goto hO 189 (by decide) dX9_tells_257 ?_
          refine sn_sub [1, 2, 3, 0] rfl ?_
          exact hrc21 _ _ _
        · intro k25 hk25
          refine sn_icmp_ne hO 254 (by decide) dX9_tells_227 ?_ ?_
          · refine sn_sub [1, 2, 3, 4] rfl ?_
            exact hk25 _ _
          · refine sn_aload_n hO 1 rfl dX9_tells_230 ?_
            refine sn_iload hO 0 rfl dX9_tells_231 ?_
            refine sn_callV hO (c2 := 0) (s2 := 0) [.int x22] cvX9_382 (fun _ => sn_Rv_K atM_0) ctX9_isSo ⟨Nat.le_of_ble_eq_true rfl, Nat.le_of_ble_eq_true rfl⟩ rfl rfl (Nat.le_of_ble_eq_true rfl) ⟨Nat.le_of_ble_eq_true rfl, Nat.le_of_ble_eq_true rfl, rfl, rfl⟩ dX9_tells_233 (sn_bI (fun r26 S27 => ?_)) sn_x0
            refine sn_if_eq hO 254 (by decide) dX9_tells_236 ?_ ?_
            · refine sn_sub [1, 2, 3, 4] rfl ?_
              exact hk25 _ _
            · refine sn_iload_n hO 2 rfl dX9_tells_239 ?_
              refine sn_iconst hO kc_2 dX9_tells_240 ?_
              refine sn_jn_walk (fun (k : Int64 → Prop) => ∀ (v28 : Int64), k v28 → sn_G LoM w rmX9_tells Qq sn_noE C 0 0 252 [(0, .ref (w.2.2.1 0)), (1, .int p1), (11, .int i19)] [.long v28] S27) ?_ ?_
              · intro v28
                refine sn_lstore hO (lv' := [(9, .long v28), (0, .ref (w.2.2.1 0)), (1, .int p1), (11, .int i19)]) (by decide) rfl dX9_tells_252 ?_
                refine sn_sub [1, 2, 0, 3] rfl ?_
                exact hk25 _ _
              · intro k29 hk29
                refine sn_icmp_ge hO 251 (by decide) dX9_tells_241 ?_ ?_
                · refine sn_lconst hO (v := 1) rfl dX9_tells_251 ?_
                  refine sn_sub [1, 2, 4] rfl ?_
                  exact hk29 _
                · refine sn_aload_n hO 1 rfl dX9_tells_244 ?_
                  refine sn_getJ hO fmX9_367 atM_0 dX9_tells_245 ?_
                  refine sn_goto hO 252 (by decide) dX9_tells_248 ?_
                  refine sn_sub [1, 2, 4] rfl ?_
                  exact hk29 _
    · intro k13 hk13
      refine sn_icmp_ne hO 146 (by decide) dX9_tells_139 ?_ ?_
      · refine sn_lconst hO (v := 0) rfl dX9_tells_146 ?_
        refine sn_sub [1, 2, 4, 5, 7] rfl ?_
        exact hk13 _
      · refine sn_lconst hO (v := 1) rfl dX9_tells_142 ?_
        refine sn_goto hO 147 (by decide) dX9_tells_143 ?_
        refine sn_sub [1, 2, 4, 5, 7] rfl ?_
        exact hk13 _
  · refine sn_lload hO 6 rfl dX9_tells_10 ?_
    subst hQq
    exact sn_lret hO rfl dX9_tells_12
theorem ctX9_tells {w : sn_W} {p1 : Int32} {p2 : Int32} {p3 : Int32} {p4 : Int32} {p5 : Int32} {p6 : Int64} {S : sn_S} {Q : Int64 → sn_S → Prop} (h : wpX9_tells p1 p2 p3 p4 p5 p6 S Q) : sn_Ct LoM w yX9_tells (ws_ yX9_tells cX9_tells 13 (some .long)) rmX9_tells [.ref (w.2.2.1 0), .int p1, .int p2, .int p3, .int p4, .int p5, .long p6] S (sn_qL Q) sn_noE := sn_Ct_of (LoM_X w) (by decide) (Nat.le_of_ble_eq_true rfl) RX9 rfl (fun C hO => wkX9_tells hO p1 p2 p3 p4 p5 p6 S Q h)
def rmX9_luresOf : Room := { frames := 4, cells := 0, slots := 0, locals := 104 }
/-- SnailPostModel.luresOf(IIII)J -/
def wpX9_luresOf (p1 : Int32) (p2 : Int32) (p3 : Int32) (p4 : Int32) (S : sn_S) (Q : Int64 → sn_S → Prop) : Prop :=
  (vp_in (80 + p2) 5680 ∧ wpX9_lightIn p2 p4 S (fun (r1 : Int32) => wpX9_tells 0 p1 p2 p3 p4 (Int32.toInt64 ((S.1 2 ((80 + p2)).toNatClampNeg) + r1)) S (fun (r2 : Int64) (S3 : sn_S) => Q r2 S3)))
theorem wkX9_luresOf {w : sn_W} {C : sn_C} (hO : sn_Ok LoM w C RX9 cX9_luresOf 5 (some .long) [] "luresOf") (p1 : Int32) (p2 : Int32) (p3 : Int32) (p4 : Int32) (S : sn_S) (Q : Int64 → sn_S → Prop) : wpX9_luresOf p1 p2 p3 p4 S Q → sn_G LoM w rmX9_luresOf (sn_qL Q) sn_noE C 0 0 0 [(0, .ref (w.2.2.1 0)), (1, .int p1), (2, .int p2), (3, .int p3), (4, .int p4)] [] S := by
  unfold wpX9_luresOf
  generalize hQq : (sn_qL Q) = Qq
  refine sn_aload_n hO 0 rfl dX9_luresOf_0 ?_
  refine sn_iconst hO kc_0 dX9_luresOf_1 ?_
  refine sn_iload_n hO 1 rfl dX9_luresOf_2 ?_
  refine sn_iload_n hO 2 rfl dX9_luresOf_3 ?_
  refine sn_iload_n hO 3 rfl dX9_luresOf_4 ?_
  refine sn_iload hO 4 rfl dX9_luresOf_5 ?_
  refine sn_aload_n hO 0 rfl dX9_luresOf_7 ?_
  refine sn_getF hO fmX9_13 atM_0 dX9_luresOf_8 ?_
  refine sn_bipush hO kb_80 dX9_luresOf_11 ?_
  refine sn_iload_n hO 2 rfl dX9_luresOf_13 ?_
  refine sn_iadd hO dX9_luresOf_14 ?_
  refine sn_iald hO atM_2 rfl dX9_luresOf_15 ?_
  refine sn_aload_n hO 0 rfl dX9_luresOf_16 ?_
  refine sn_iload_n hO 2 rfl dX9_luresOf_17 ?_
  refine sn_iload hO 4 rfl dX9_luresOf_18 ?_
  refine sn_callV hO (c2 := 0) (s2 := 0) [.int p2, .int p4] cvX9_376 (fun _ => sn_Rv_K atM_0) ctX9_lightIn ⟨Nat.le_of_ble_eq_true rfl, Nat.le_of_ble_eq_true rfl⟩ rfl rfl (Nat.le_of_ble_eq_true rfl) ⟨Nat.le_of_ble_eq_true rfl, Nat.le_of_ble_eq_true rfl, rfl, rfl⟩ dX9_luresOf_20 (sn_bIp (fun r1 => ?_)) sn_x0
  refine sn_iadd hO dX9_luresOf_23 ?_
  refine sn_i2l hO dX9_luresOf_24 ?_
  refine sn_callV hO (c2 := 0) (s2 := 0) [.int 0, .int p1, .int p2, .int p3, .int p4, .long (Int32.toInt64 ((S.1 2 ((80 + p2)).toNatClampNeg) + r1))] cvX9_385 (fun _ => sn_Rv_K atM_0) ctX9_tells ⟨Nat.le_of_ble_eq_true rfl, Nat.le_of_ble_eq_true rfl⟩ rfl rfl (Nat.le_of_ble_eq_true rfl) ⟨Nat.le_of_ble_eq_true rfl, Nat.le_of_ble_eq_true rfl, rfl, rfl⟩ dX9_luresOf_25 (sn_bL (fun r2 S3 => ?_)) sn_x0
  subst hQq
  exact sn_lret hO rfl dX9_luresOf_28
theorem ctX9_luresOf {w : sn_W} {p1 : Int32} {p2 : Int32} {p3 : Int32} {p4 : Int32} {S : sn_S} {Q : Int64 → sn_S → Prop} (h : wpX9_luresOf p1 p2 p3 p4 S Q) : sn_Ct LoM w yX9_luresOf (ws_ yX9_luresOf cX9_luresOf 5 (some .long)) rmX9_luresOf [.ref (w.2.2.1 0), .int p1, .int p2, .int p3, .int p4] S (sn_qL Q) sn_noE := sn_Ct_of (LoM_X w) (by decide) (Nat.le_of_ble_eq_true rfl) RX9 rfl (fun C hO => wkX9_luresOf hO p1 p2 p3 p4 S Q h)
def rmX9_creep : Room := { frames := 5, cells := 0, slots := 0, locals := 128 }
/-- SnailPostModel.creep(III)V -/
def wpX9_creep (p1 : Int32) (p2 : Int32) (p3 : Int32) (S : sn_S) (Q : sn_S → Prop) : Prop :=
  (vp_in p1 6 ∧ sn_lt (S.1 15 (p1).toNatClampNeg) (fun x1 => sn_lt (p2 / 12) (fun x2 => wpX9_tells 2 p1 x1 x2 p3 0 S (fun (r3 : Int64) (S4 : sn_S) => sn_jn (fun (S5 : sn_S) => (vp_in p1 6 ∧ (vp_in p1 6 ∧ ((¬ (S5.1 15 (p1).toNatClampNeg) = x1 → (vp_in p1 6 ∧ sn_lt (sn_pI S5 19 (p1).toNatClampNeg ((S5.1 19 (p1).toNatClampNeg) + 0)) (fun S7 => Q S7))) ∧ ((S5.1 15 (p1).toNatClampNeg) = x1 → (vp_in p1 6 ∧ sn_lt (sn_pI S5 19 (p1).toNatClampNeg ((S5.1 19 (p1).toNatClampNeg) + 1)) (fun S8 => Q S8))))))) (fun (k6 : sn_S → Prop) => ((¬ (lg_cmp r3 0) = 0 → k6 S4) ∧ ((lg_cmp r3 0) = 0 → wpX9_luresOf p1 x1 x2 p3 S4 (fun (r9 : Int64) (S10 : sn_S) => sn_jn (fun (v11 : Int32) (S12 : sn_S) => (vp_in p1 6 ∧ sn_lt (sn_pI S12 15 (p1).toNatClampNeg v11) (fun S14 => (vp_in v11 96 ∧ (vp_in v11 96 ∧ sn_lt (sn_pI S14 18 (v11).toNatClampNeg ((S14.1 18 (v11).toNatClampNeg) ||| (1 <<< (p1 &&& 31)))) (fun S15 => wpX9_ofSnail p1 1 S15 (fun (r16 : Int32) => sn_jn (fun (v17 : Int32) => (vp_in p1 6 ∧ sn_lt (sn_pI S15 16 (p1).toNatClampNeg v17) (fun S19 => k6 S19))) (fun (k18 : Int32 → Prop) => ((¬ v11 = r16 → k18 (-1)) ∧ (v11 = r16 → k18 (p2 + 1))))))))))) (fun (k13 : Int32 → sn_S → Prop) => sn_lp4 (fun (rc24 : Int32 → Int64 → Int32 → sn_S → Prop) (i20 : Int32) (i21 : Int64) (i22 : Int32) (S23 : sn_S) => ((4 ≤ i22 → k13 i20 S23) ∧ (¬ 4 ≤ i22 → sn_jn (fun (v25 : Int32) => sn_lt ((x1 - x1 / 12 * 12) + v25) (fun x27 => sn_jn (fun (v28 : Int32) => sn_lt ((x1 / 12) + v28) (fun x30 => sn_lt ((12 * x30) + x27) (fun x31 => wpX9_in (Int32.toInt64 x27) 0 11 (fun (r32 : Int32) => sn_jn (fun (v33 : Int32) (v34 : Int64) (S35 : sn_S) => rc24 v33 v34 (i22 + 1) S35) (fun (k36 : Int32 → Int64 → sn_S → Prop) => ((r32 = 0 → k36 i20 i21 S23) ∧ (¬ r32 = 0 → wpX9_in (Int32.toInt64 x30) 0 7 (fun (r37 : Int32) => ((r37 = 0 → k36 i20 i21 S23) ∧ (¬ r37 = 0 → (vp_in (176 + x31) 5680 ∧ ((¬ (S23.1 2 ((176 + x31)).toNatClampNeg) = 0 → k36 i20 i21 S23) ∧ ((S23.1 2 ((176 + x31)).toNatClampNeg) = 0 → wpX9_luresOf p1 x31 x2 p3 S23 (fun (r38 : Int64) (S39 : sn_S) => sn_jn (fun (v40 : Int32) => sn_jn (fun (v42 : Int64) => k36 v40 v42 S39) (fun (k43 : Int64 → Prop) => (((lg_cmp r38 i21) ≤ 0 → k43 i21) ∧ (¬ (lg_cmp r38 i21) ≤ 0 → k43 r38)))) (fun (k41 : Int32 → Prop) => (((lg_cmp r38 i21) ≤ 0 → k41 i20) ∧ (¬ (lg_cmp r38 i21) ≤ 0 → k41 x31))))))))))))))))) (fun (k29 : Int32 → Prop) => ((¬ i22 = 0 → ((¬ i22 = 2 → k29 0) ∧ (i22 = 2 → k29 1))) ∧ (i22 = 0 → k29 (-1)))))) (fun (k26 : Int32 → Prop) => ((¬ i22 = 1 → ((¬ i22 = 3 → k26 0) ∧ (i22 = 3 → k26 (-1)))) ∧ (i22 = 1 → k26 1)))))) x1 r9 0 S10)))))))))
theorem wkX9_creep {w : sn_W} {C : sn_C} (hO : sn_Ok LoM w C RX9 cX9_creep 15 none [] "creep") (p1 : Int32) (p2 : Int32) (p3 : Int32) (S : sn_S) (Q : sn_S → Prop) : wpX9_creep p1 p2 p3 S Q → sn_G LoM w rmX9_creep (sn_qV Q) sn_noE C 0 0 0 [(0, .ref (w.2.2.1 0)), (1, .int p1), (2, .int p2), (3, .int p3)] [] S := by
  unfold wpX9_creep
  generalize hQq : (sn_qV Q) = Qq
  refine sn_aload_n hO 0 rfl dX9_creep_0 ?_
  refine sn_getF hO fmX9_84 atM_0 dX9_creep_1 ?_
  refine sn_iload_n hO 1 rfl dX9_creep_4 ?_
  refine sn_iald hO atM_15 rfl dX9_creep_5 ?_
  refine sn_nmI (fun x1 => ?_)
  refine sn_istore hO (lv' := [(4, .int x1), (0, .ref (w.2.2.1 0)), (1, .int p1), (2, .int p2), (3, .int p3)]) (by decide) rfl dX9_creep_6 ?_
  refine sn_iload_n hO 3 rfl dX9_creep_8 ?_
  refine sn_bipush hO kb_12 dX9_creep_9 ?_
  refine sn_idiv hO (by decide) dX9_creep_11 ?_
  refine sn_nmI (fun x2 => ?_)
  refine sn_istore hO (lv' := [(5, .int x2), (4, .int x1), (0, .ref (w.2.2.1 0)), (1, .int p1), (2, .int p2), (3, .int p3)]) (by decide) rfl dX9_creep_12 ?_
  refine sn_aload_n hO 2 rfl dX9_creep_14 ?_
  refine sn_iconst hO kc_2 dX9_creep_15 ?_
  refine sn_iload_n hO 3 rfl dX9_creep_16 ?_
  refine sn_iload hO 1 rfl dX9_creep_17 ?_
  refine sn_iload hO 0 rfl dX9_creep_19 ?_
  refine sn_iload_n hO 5 rfl dX9_creep_21 ?_
  refine sn_lconst hO (v := 0) rfl dX9_creep_22 ?_
  refine sn_callV hO (c2 := 0) (s2 := 0) [.int 2, .int p1, .int x1, .int x2, .int p3, .long 0] cvX9_385 (fun _ => sn_Rv_K atM_0) ctX9_tells ⟨Nat.le_of_ble_eq_true rfl, Nat.le_of_ble_eq_true rfl⟩ rfl rfl (Nat.le_of_ble_eq_true rfl) ⟨Nat.le_of_ble_eq_true rfl, Nat.le_of_ble_eq_true rfl, rfl, rfl⟩ dX9_creep_23 (sn_bL (fun r3 S4 => ?_)) sn_x0
  refine sn_lconst hO (v := 0) rfl dX9_creep_26 ?_
  refine sn_lcmp hO dX9_creep_27 ?_
  refine sn_jn_walk (fun (k : sn_S → Prop) => ∀ (S5 : sn_S), k S5 → sn_G LoM w rmX9_creep Qq sn_noE C 0 0 260 [(0, .ref (w.2.2.1 0)), (1, .int p1), (4, .int x1)] [] S5) ?_ ?_
  · intro S5
    refine sn_aload_n hO 0 rfl dX9_creep_260 ?_
    refine sn_getF hO fmX9_96 atM_0 dX9_creep_261 ?_
    refine sn_iload_n hO 1 rfl dX9_creep_264 ?_
    refine sn_dup2 hO rfl rfl dX9_creep_265 ?_
    refine sn_iald hO atM_19 rfl dX9_creep_266 ?_
    refine sn_aload_n hO 0 rfl dX9_creep_267 ?_
    refine sn_getF hO fmX9_84 atM_0 dX9_creep_268 ?_
    refine sn_iload_n hO 1 rfl dX9_creep_271 ?_
    refine sn_iald hO atM_15 rfl dX9_creep_272 ?_
    refine sn_iload hO 2 rfl dX9_creep_273 ?_
    refine sn_icmp_ne hO 282 (by decide) dX9_creep_275 ?_ ?_
    · refine sn_iconst hO kc_0 dX9_creep_282 ?_
      refine sn_iadd hO dX9_creep_283 ?_
      refine sn_iast hO atM_19 rfl dX9_creep_284 ?_
      refine sn_nmS (fun S7 => ?_)
      subst hQq
      exact sn_vret hO rfl dX9_creep_285
    · refine sn_iconst hO kc_1 dX9_creep_278 ?_
      refine sn_goto hO 283 (by decide) dX9_creep_279 ?_
      refine sn_iadd hO dX9_creep_283 ?_
      refine sn_iast hO atM_19 rfl dX9_creep_284 ?_
      refine sn_nmS (fun S8 => ?_)
      subst hQq
      exact sn_vret hO rfl dX9_creep_285
  · intro k6 hk6
    refine sn_if_ne hO 260 (by decide) dX9_creep_28 ?_ ?_
    · refine sn_sub [2, 3, 1] rfl ?_
      exact hk6 _
    · refine sn_iload hO 1 rfl dX9_creep_31 ?_
      refine sn_istore hO (lv' := [(6, .int x1), (5, .int x2), (4, .int x1), (0, .ref (w.2.2.1 0)), (1, .int p1), (2, .int p2), (3, .int p3)]) (by decide) rfl dX9_creep_33 ?_
      refine sn_aload_n hO 3 rfl dX9_creep_35 ?_
      refine sn_iload_n hO 4 rfl dX9_creep_36 ?_
      refine sn_iload hO 2 rfl dX9_creep_37 ?_
      refine sn_iload hO 1 rfl dX9_creep_39 ?_
      refine sn_iload_n hO 6 rfl dX9_creep_41 ?_
      refine sn_callV hO (c2 := 0) (s2 := 0) [.int p1, .int x1, .int x2, .int p3] cvX9_393 (fun _ => sn_Rv_K atM_0) ctX9_luresOf ⟨Nat.le_of_ble_eq_true rfl, Nat.le_of_ble_eq_true rfl⟩ rfl rfl (Nat.le_of_ble_eq_true rfl) ⟨Nat.le_of_ble_eq_true rfl, Nat.le_of_ble_eq_true rfl, rfl, rfl⟩ dX9_creep_42 (sn_bL (fun r9 S10 => ?_)) sn_x0
      refine sn_lstore hO (lv' := [(7, .long r9), (6, .int x1), (5, .int x2), (4, .int x1), (0, .ref (w.2.2.1 0)), (1, .int p1), (2, .int p2), (3, .int p3)]) (by decide) rfl dX9_creep_45 ?_
      refine sn_iconst hO kc_0 dX9_creep_47 ?_
      refine sn_istore hO (lv' := [(9, .int 0), (7, .long r9), (6, .int x1), (5, .int x2), (4, .int x1), (0, .ref (w.2.2.1 0)), (1, .int p1), (2, .int p2), (3, .int p3)]) (by decide) rfl dX9_creep_48 ?_
      refine sn_jn_walk (fun (k : Int32 → sn_S → Prop) => ∀ (v11 : Int32) (S12 : sn_S), k v11 S12 → sn_G LoM w rmX9_creep Qq sn_noE C 0 0 215 [(0, .ref (w.2.2.1 0)), (1, .int p1), (2, .int p2), (4, .int x1), (6, .int v11)] [] S12) ?_ ?_
      · intro v11 S12
        refine sn_aload_n hO 0 rfl dX9_creep_215 ?_
        refine sn_getF hO fmX9_84 atM_0 dX9_creep_216 ?_
        refine sn_iload_n hO 1 rfl dX9_creep_219 ?_
        refine sn_iload hO 4 rfl dX9_creep_220 ?_
        refine sn_iast hO atM_15 rfl dX9_creep_222 ?_
        refine sn_nmS (fun S14 => ?_)
        refine sn_aload_n hO 0 rfl dX9_creep_223 ?_
        refine sn_getF hO fmX9_93 atM_0 dX9_creep_224 ?_
        refine sn_iload hO 4 rfl dX9_creep_227 ?_
        refine sn_dup2 hO rfl rfl dX9_creep_229 ?_
        refine sn_iald hO atM_18 rfl dX9_creep_230 ?_
        refine sn_iconst hO kc_1 dX9_creep_231 ?_
        refine sn_iload_n hO 1 rfl dX9_creep_232 ?_
        refine sn_ishl hO dX9_creep_233 ?_
        refine sn_ior hO dX9_creep_234 ?_
        refine sn_iast hO atM_18 rfl dX9_creep_235 ?_
        refine sn_nmS (fun S15 => ?_)
        refine sn_aload_n hO 0 rfl dX9_creep_236 ?_
        refine sn_getF hO fmX9_87 atM_0 dX9_creep_237 ?_
        refine sn_iload_n hO 1 rfl dX9_creep_240 ?_
        refine sn_iload hO 4 rfl dX9_creep_241 ?_
        refine sn_aload_n hO 0 rfl dX9_creep_243 ?_
        refine sn_iload_n hO 1 rfl dX9_creep_244 ?_
        refine sn_iconst hO kc_1 dX9_creep_245 ?_
        refine sn_callV hO (c2 := 0) (s2 := 0) [.int p1, .int 1] cvX9_169 (fun _ => sn_Rv_K atM_0) ctX9_ofSnail ⟨Nat.le_of_ble_eq_true rfl, Nat.le_of_ble_eq_true rfl⟩ rfl rfl (Nat.le_of_ble_eq_true rfl) ⟨Nat.le_of_ble_eq_true rfl, Nat.le_of_ble_eq_true rfl, rfl, rfl⟩ dX9_creep_246 (sn_bIp (fun r16 => ?_)) sn_x0
        refine sn_jn_walk (fun (k : Int32 → Prop) => ∀ (v17 : Int32), k v17 → sn_G LoM w rmX9_creep Qq sn_noE C 0 0 259 [(0, .ref (w.2.2.1 0)), (1, .int p1), (4, .int x1)] [.int v17, .int p1, .ref (w.2.2.1 16)] S15) ?_ ?_
        · intro v17
          refine sn_iast hO atM_16 rfl dX9_creep_259 ?_
          refine sn_nmS (fun S19 => ?_)
          exact hk6 _
        · intro k18 hk18
          refine sn_icmp_ne hO 258 (by decide) dX9_creep_249 ?_ ?_
          · refine sn_iconst hO kc_m1 dX9_creep_258 ?_
            refine sn_sub [0, 1, 3] rfl ?_
            exact hk18 _
          · refine sn_iload_n hO 2 rfl dX9_creep_252 ?_
            refine sn_iconst hO kc_1 dX9_creep_253 ?_
            refine sn_iadd hO dX9_creep_254 ?_
            refine sn_goto hO 259 (by decide) dX9_creep_255 ?_
            refine sn_sub [0, 1, 3] rfl ?_
            exact hk18 _
      · intro k13 hk13
        refine sn_sub [5, 6, 7, 8, 4, 3, 2, 1, 0] rfl ?_
        refine sn_lp4_walk (Gd := fun (i20 : Int32) (i21 : Int64) (i22 : Int32) (S23 : sn_S) => sn_G LoM w rmX9_creep Qq sn_noE C 0 0 50 [(0, .ref (w.2.2.1 0)), (1, .int p1), (2, .int p2), (3, .int p3), (4, .int x1), (5, .int x2), (6, .int i20), (7, .long i21), (9, .int i22)] [] S23) ?_ _ _ _ _
        intro rc24 hrc24 i20 i21 i22 S23
        refine sn_iload hO 8 rfl dX9_creep_50 ?_
        refine sn_iconst hO kc_4 dX9_creep_52 ?_
        refine sn_icmp_ge hO 215 (by decide) dX9_creep_53 ?_ ?_
        · refine sn_sub [0, 1, 2, 4, 6] rfl ?_
          exact hk13 _ _
        · refine sn_iload hO 4 rfl dX9_creep_56 ?_
          refine sn_bipush hO kb_12 dX9_creep_58 ?_
          refine sn_irem hO (by decide) dX9_creep_60 ?_
          refine sn_iload hO 8 rfl dX9_creep_61 ?_
          refine sn_iconst hO kc_1 dX9_creep_63 ?_
          refine sn_jn_walk (fun (k : Int32 → Prop) => ∀ (v25 : Int32), k v25 → sn_G LoM w rmX9_creep Qq sn_noE C 0 0 82 [(0, .ref (w.2.2.1 0)), (1, .int p1), (2, .int p2), (3, .int p3), (4, .int x1), (5, .int x2), (6, .int i20), (7, .long i21), (9, .int i22)] [.int v25, .int (x1 - x1 / 12 * 12)] S23) ?_ ?_
          · intro v25
            refine sn_iadd hO dX9_creep_82 ?_
            refine sn_nmI (fun x27 => ?_)
            refine sn_istore hO (lv' := [(10, .int x27), (0, .ref (w.2.2.1 0)), (1, .int p1), (2, .int p2), (3, .int p3), (4, .int x1), (5, .int x2), (6, .int i20), (7, .long i21), (9, .int i22)]) (by decide) rfl dX9_creep_83 ?_
            refine sn_iload hO 5 rfl dX9_creep_85 ?_
            refine sn_bipush hO kb_12 dX9_creep_87 ?_
            refine sn_idiv hO (by decide) dX9_creep_89 ?_
            refine sn_iload hO 9 rfl dX9_creep_90 ?_
            refine sn_jn_walk (fun (k : Int32 → Prop) => ∀ (v28 : Int32), k v28 → sn_G LoM w rmX9_creep Qq sn_noE C 0 0 110 [(0, .ref (w.2.2.1 0)), (1, .int p1), (2, .int p2), (3, .int p3), (4, .int x1), (5, .int x2), (6, .int i20), (7, .long i21), (9, .int i22), (10, .int x27)] [.int v28, .int (x1 / 12)] S23) ?_ ?_
            · intro v28
              refine sn_iadd hO dX9_creep_110 ?_
              refine sn_nmI (fun x30 => ?_)
              refine sn_istore hO (lv' := [(11, .int x30), (0, .ref (w.2.2.1 0)), (1, .int p1), (2, .int p2), (3, .int p3), (4, .int x1), (5, .int x2), (6, .int i20), (7, .long i21), (9, .int i22), (10, .int x27)]) (by decide) rfl dX9_creep_111 ?_
              refine sn_bipush hO kb_12 dX9_creep_113 ?_
              refine sn_iload hO 0 rfl dX9_creep_115 ?_
              refine sn_imul hO dX9_creep_117 ?_
              refine sn_iload hO 10 rfl dX9_creep_118 ?_
              refine sn_iadd hO dX9_creep_120 ?_
              refine sn_nmI (fun x31 => ?_)
              refine sn_istore hO (lv' := [(12, .int x31), (11, .int x30), (0, .ref (w.2.2.1 0)), (1, .int p1), (2, .int p2), (3, .int p3), (4, .int x1), (5, .int x2), (6, .int i20), (7, .long i21), (9, .int i22), (10, .int x27)]) (by decide) rfl dX9_creep_121 ?_
              refine sn_iload hO 11 rfl dX9_creep_123 ?_
              refine sn_i2l hO dX9_creep_125 ?_
              refine sn_lconst hO (v := 0) rfl dX9_creep_126 ?_
              refine sn_ldc2 hO q1906 dX9_creep_127 ?_
              refine sn_callS hO (c2 := 0) (s2 := 0) [.long (Int32.toInt64 x27), .long 0, .long 11] csX9_160 ctX9_in ⟨Nat.le_of_ble_eq_true rfl, Nat.le_of_ble_eq_true rfl⟩ rfl rfl (Nat.le_of_ble_eq_true rfl) ⟨Nat.le_of_ble_eq_true rfl, Nat.le_of_ble_eq_true rfl, rfl, rfl⟩ dX9_creep_130 (sn_bIp (fun r32 => ?_)) sn_x0
              refine sn_jn_walk (fun (k : Int32 → Int64 → sn_S → Prop) => ∀ (v33 : Int32) (v34 : Int64) (S35 : sn_S), k v33 v34 S35 → sn_G LoM w rmX9_creep Qq sn_noE C 0 0 209 [(0, .ref (w.2.2.1 0)), (1, .int p1), (2, .int p2), (3, .int p3), (4, .int x1), (5, .int x2), (6, .int v33), (7, .long v34), (9, .int i22)] [] S35) ?_ ?_
              · intro v33 v34 S35
                refine sn_iinc hO (lv' := [(9, .int (i22 + 1)), (0, .ref (w.2.2.1 0)), (1, .int p1), (2, .int p2), (3, .int p3), (4, .int x1), (5, .int x2), (6, .int v33), (7, .long v34)]) 8 rfl ki_1 (by decide) rfl dX9_creep_209 ?_
                refine sn_goto hO 50 (by decide) dX9_creep_212 ?_
                refine sn_sub [1, 2, 3, 4, 5, 6, 7, 8, 0] rfl ?_
                exact hrc24 _ _ _ _
              · intro k36 hk36
                refine sn_if_eq hO 209 (by decide) dX9_creep_133 ?_ ?_
                · refine sn_sub [2, 3, 4, 5, 6, 7, 8, 9, 10] rfl ?_
                  exact hk36 _ _ _
                · refine sn_iload hO 1 rfl dX9_creep_136 ?_
                  refine sn_i2l hO dX9_creep_138 ?_
                  refine sn_lconst hO (v := 0) rfl dX9_creep_139 ?_
                  refine sn_ldc2 hO q1907 dX9_creep_140 ?_
                  refine sn_callS hO (c2 := 0) (s2 := 0) [.long (Int32.toInt64 x30), .long 0, .long 7] csX9_160 ctX9_in ⟨Nat.le_of_ble_eq_true rfl, Nat.le_of_ble_eq_true rfl⟩ rfl rfl (Nat.le_of_ble_eq_true rfl) ⟨Nat.le_of_ble_eq_true rfl, Nat.le_of_ble_eq_true rfl, rfl, rfl⟩ dX9_creep_143 (sn_bIp (fun r37 => ?_)) sn_x0
                  refine sn_if_eq hO 209 (by decide) dX9_creep_146 ?_ ?_
                  · refine sn_sub [2, 3, 4, 5, 6, 7, 8, 9, 10] rfl ?_
                    exact hk36 _ _ _
                  · refine sn_aload_n hO 2 rfl dX9_creep_149 ?_
                    refine sn_getF hO fmX9_13 atM_0 dX9_creep_150 ?_
                    refine sn_sipush hO ks_176 dX9_creep_153 ?_
                    refine sn_iload hO 0 rfl dX9_creep_156 ?_
                    refine sn_iadd hO dX9_creep_158 ?_
                    refine sn_iald hO atM_2 rfl dX9_creep_159 ?_
                    refine sn_if_ne hO 209 (by decide) dX9_creep_160 ?_ ?_
                    · refine sn_sub [2, 3, 4, 5, 6, 7, 8, 9, 10] rfl ?_
                      exact hk36 _ _ _
                    · refine sn_aload_n hO 2 rfl dX9_creep_163 ?_
                      refine sn_iload_n hO 3 rfl dX9_creep_164 ?_
                      refine sn_iload hO 0 rfl dX9_creep_165 ?_
                      refine sn_iload hO 7 rfl dX9_creep_167 ?_
                      refine sn_iload_n hO 5 rfl dX9_creep_169 ?_
                      refine sn_callV hO (c2 := 0) (s2 := 0) [.int p1, .int x31, .int x2, .int p3] cvX9_393 (fun _ => sn_Rv_K atM_0) ctX9_luresOf ⟨Nat.le_of_ble_eq_true rfl, Nat.le_of_ble_eq_true rfl⟩ rfl rfl (Nat.le_of_ble_eq_true rfl) ⟨Nat.le_of_ble_eq_true rfl, Nat.le_of_ble_eq_true rfl, rfl, rfl⟩ dX9_creep_170 (sn_bL (fun r38 S39 => ?_)) sn_x0
                      refine sn_lstore hO (lv' := [(13, .long r38), (12, .int x31), (11, .int x30), (0, .ref (w.2.2.1 0)), (1, .int p1), (2, .int p2), (3, .int p3), (4, .int x1), (5, .int x2), (6, .int i20), (7, .long i21), (9, .int i22), (10, .int x27)]) (by decide) rfl dX9_creep_173 ?_
                      refine sn_lload hO 0 rfl dX9_creep_175 ?_
                      refine sn_lload hO 10 rfl dX9_creep_177 ?_
                      refine sn_lcmp hO dX9_creep_179 ?_
                      refine sn_jn_walk (fun (k : Int32 → Prop) => ∀ (v40 : Int32), k v40 → sn_G LoM w rmX9_creep Qq sn_noE C 0 0 190 [(0, .ref (w.2.2.1 0)), (1, .int p1), (2, .int p2), (3, .int p3), (4, .int x1), (5, .int x2), (7, .long i21), (9, .int i22), (13, .long r38)] [.int v40] S39) ?_ ?_
                      · intro v40
                        refine sn_istore hO (lv' := [(6, .int v40), (0, .ref (w.2.2.1 0)), (1, .int p1), (2, .int p2), (3, .int p3), (4, .int x1), (5, .int x2), (7, .long i21), (9, .int i22), (13, .long r38)]) (by decide) rfl dX9_creep_190 ?_
                        refine sn_lload hO 9 rfl dX9_creep_192 ?_
                        refine sn_lload hO 7 rfl dX9_creep_194 ?_
                        refine sn_lcmp hO dX9_creep_196 ?_
                        refine sn_jn_walk (fun (k : Int64 → Prop) => ∀ (v42 : Int64), k v42 → sn_G LoM w rmX9_creep Qq sn_noE C 0 0 207 [(0, .ref (w.2.2.1 0)), (1, .int p1), (2, .int p2), (3, .int p3), (4, .int x1), (5, .int x2), (6, .int v40), (9, .int i22)] [.long v42] S39) ?_ ?_
                        · intro v42
                          refine sn_lstore hO (lv' := [(7, .long v42), (0, .ref (w.2.2.1 0)), (1, .int p1), (2, .int p2), (3, .int p3), (4, .int x1), (5, .int x2), (6, .int v40), (9, .int i22)]) (by decide) rfl dX9_creep_207 ?_
                          refine sn_sub [1, 2, 3, 4, 5, 6, 7, 0, 8] rfl ?_
                          exact hk36 _ _ _
                        · intro k43 hk43
                          refine sn_if_le hO 205 (by decide) dX9_creep_197 ?_ ?_
                          · refine sn_lload hO 7 rfl dX9_creep_205 ?_
                            refine sn_sub [1, 2, 3, 4, 5, 6, 0, 8] rfl ?_
                            exact hk43 _
                          · refine sn_lload hO 9 rfl dX9_creep_200 ?_
                            refine sn_goto hO 207 (by decide) dX9_creep_202 ?_
                            refine sn_sub [1, 2, 3, 4, 5, 6, 0, 8] rfl ?_
                            exact hk43 _
                      · intro k41 hk41
                        refine sn_if_le hO 188 (by decide) dX9_creep_180 ?_ ?_
                        · refine sn_iload hO 9 rfl dX9_creep_188 ?_
                          refine sn_sub [3, 4, 5, 6, 7, 8, 10, 11, 0] rfl ?_
                          exact hk41 _
                        · refine sn_iload hO 1 rfl dX9_creep_183 ?_
                          refine sn_goto hO 190 (by decide) dX9_creep_185 ?_
                          refine sn_sub [3, 4, 5, 6, 7, 8, 10, 11, 0] rfl ?_
                          exact hk41 _
            · intro k29 hk29
              refine sn_if_ne hO 99 (by decide) dX9_creep_92 ?_ ?_
              · refine sn_iload hO 9 rfl dX9_creep_99 ?_
                refine sn_iconst hO kc_2 dX9_creep_101 ?_
                refine sn_icmp_ne hO 109 (by decide) dX9_creep_102 ?_ ?_
                · refine sn_iconst hO kc_0 dX9_creep_109 ?_
                  refine sn_sub [1, 2, 3, 4, 5, 6, 7, 8, 9, 0] rfl ?_
                  exact hk29 _
                · refine sn_iconst hO kc_1 dX9_creep_105 ?_
                  refine sn_goto hO 110 (by decide) dX9_creep_106 ?_
                  refine sn_sub [1, 2, 3, 4, 5, 6, 7, 8, 9, 0] rfl ?_
                  exact hk29 _
              · refine sn_iconst hO kc_m1 dX9_creep_95 ?_
                refine sn_goto hO 110 (by decide) dX9_creep_96 ?_
                refine sn_sub [1, 2, 3, 4, 5, 6, 7, 8, 9, 0] rfl ?_
                exact hk29 _
          · intro k26 hk26
            refine sn_icmp_ne hO 71 (by decide) dX9_creep_64 ?_ ?_
            · refine sn_iload hO 8 rfl dX9_creep_71 ?_
              refine sn_iconst hO kc_3 dX9_creep_73 ?_
              refine sn_icmp_ne hO 81 (by decide) dX9_creep_74 ?_ ?_
              · refine sn_iconst hO kc_0 dX9_creep_81 ?_
                exact hk26 _
              · refine sn_iconst hO kc_m1 dX9_creep_77 ?_
                refine sn_goto hO 82 (by decide) dX9_creep_78 ?_
                exact hk26 _
            · refine sn_iconst hO kc_1 dX9_creep_67 ?_
              refine sn_goto hO 82 (by decide) dX9_creep_68 ?_
              exact hk26 _
theorem ctX9_creep {w : sn_W} {p1 : Int32} {p2 : Int32} {p3 : Int32} {S : sn_S} {Q : sn_S → Prop} (h : wpX9_creep p1 p2 p3 S Q) : sn_Ct LoM w yX9_creep (ws_ yX9_creep cX9_creep 15 none) rmX9_creep [.ref (w.2.2.1 0), .int p1, .int p2, .int p3] S (sn_qV Q) sn_noE := sn_Ct_of (LoM_X w) (by decide) (Nat.le_of_ble_eq_true rfl) RX9 rfl (fun C hO => wkX9_creep hO p1 p2 p3 S Q h)
def rmX9_runHour : Room := { frames := 6, cells := 0, slots := 0, locals := 162 }
/-- SnailPostModel.runHour(II)V -/
def wpX9_runHour (p1 : Int32) (p2 : Int32) (S : sn_S) (Q : sn_S → Prop) : Prop :=
  sn_lt (12 * p1) (fun x1 => sn_lp2 (fun (rc4 : Int32 → sn_S → Prop) (i2 : Int32) (S3 : sn_S) => ((((12 * p1) + 12) ≤ i2 → Q S3) ∧ (¬ ((12 * p1) + 12) ≤ i2 → sn_jn (fun (S5 : sn_S) => rc4 (i2 + 1) S5) (fun (k6 : sn_S → Prop) => sn_lp2 (fun (rc9 : Int32 → sn_S → Prop) (i7 : Int32) (S8 : sn_S) => (vp_in 0 5680 ∧ (((S8.1 2 (0 : Int32).toNatClampNeg) ≤ i7 → k6 S8) ∧ (¬ (S8.1 2 (0 : Int32).toNatClampNeg) ≤ i7 → wpX9_ofSnail i7 2 S8 (fun (r10 : Int32) => (¬ r10 = 0 ∧ sn_jn (fun (S11 : sn_S) => (vp_in i7 6 ∧ (vp_in ((60 * i7) + i2) 360 ∧ sn_lt (sn_pI S11 20 (((60 * i7) + i2)).toNatClampNeg (S11.1 15 (i7).toNatClampNeg)) (fun S13 => rc9 (i7 + 1) S13)))) (fun (k12 : sn_S → Prop) => ((¬ ((i2 + 1) - (i2 + 1) / r10 * r10) = 0 → k12 S8) ∧ (((i2 + 1) - (i2 + 1) / r10 * r10) = 0 → (vp_in i7 6 ∧ ((¬ (S8.1 16 (i7).toNatClampNeg) = (-1) → k12 S8) ∧ ((S8.1 16 (i7).toNatClampNeg) = (-1) → (vp_in i7 6 ∧ ((¬ (S8.1 17 (i7).toNatClampNeg) = 0 → k12 S8) ∧ ((S8.1 17 (i7).toNatClampNeg) = 0 → wpX9_creep i7 i2 p2 S8 (fun (S14 : sn_S) => k12 S14)))))))))))))))) 0 S3)))) x1 S)
theorem wkX9_runHour {w : sn_W} {C : sn_C} (hO : sn_Ok LoM w C RX9 cX9_runHour 5 none [] "runHour") (p1 : Int32) (p2 : Int32) (S : sn_S) (Q : sn_S → Prop) : wpX9_runHour p1 p2 S Q → sn_G LoM w rmX9_runHour (sn_qV Q) sn_noE C 0 0 0 [(0, .ref (w.2.2.1 0)), (1, .int p1), (2, .int p2)] [] S := by
  unfold wpX9_runHour
  generalize hQq : (sn_qV Q) = Qq
  refine sn_bipush hO kb_12 dX9_runHour_0 ?_
  refine sn_iload_n hO 1 rfl dX9_runHour_2 ?_
  refine sn_imul hO dX9_runHour_3 ?_
  refine sn_nmI (fun x1 => ?_)
  refine sn_istore_n hO (lv' := [(3, .int x1), (0, .ref (w.2.2.1 0)), (1, .int p1), (2, .int p2)]) (by decide) rfl dX9_runHour_4 ?_
  refine sn_sub [1, 2, 3, 0] rfl ?_
  refine sn_lp2_walk (Gd := fun (i2 : Int32) (S3 : sn_S) => sn_G LoM w rmX9_runHour Qq sn_noE C 0 0 5 [(0, .ref (w.2.2.1 0)), (1, .int p1), (2, .int p2), (3, .int i2)] [] S3) ?_ _ _
  intro rc4 hrc4 i2 S3
  refine sn_iload_n hO 3 rfl dX9_runHour_5 ?_
  refine sn_bipush hO kb_12 dX9_runHour_6 ?_
  refine sn_iload_n hO 1 rfl dX9_runHour_8 ?_
  refine sn_imul hO dX9_runHour_9 ?_
  refine sn_bipush hO kb_12 dX9_runHour_10 ?_
  refine sn_iadd hO dX9_runHour_12 ?_
  refine sn_icmp_ge hO 104 (by decide) dX9_runHour_13 ?_ ?_
  · subst hQq
    exact sn_vret hO rfl dX9_runHour_104
  · refine sn_iconst hO kc_0 dX9_runHour_16 ?_
    refine sn_istore hO (lv' := [(4, .int 0), (0, .ref (w.2.2.1 0)), (1, .int p1), (2, .int p2), (3, .int i2)]) (by decide) rfl dX9_runHour_17 ?_
    refine sn_jn_walk (fun (k : sn_S → Prop) => ∀ (S5 : sn_S), k S5 → sn_G LoM w rmX9_runHour Qq sn_noE C 0 0 98 [(0, .ref (w.2.2.1 0)), (1, .int p1), (2, .int p2), (3, .int i2)] [] S5) ?_ ?_
    · intro S5
      refine sn_iinc hO (lv' := [(3, .int (i2 + 1)), (0, .ref (w.2.2.1 0)), (1, .int p1), (2, .int p2)]) 3 rfl ki_1 (by decide) rfl dX9_runHour_98 ?_
      refine sn_goto hO 5 (by decide) dX9_runHour_101 ?_
      refine sn_sub [1, 2, 3, 0] rfl ?_
      exact hrc4 _ _
    · intro k6 hk6
      refine sn_sub [1, 2, 3, 4, 0] rfl ?_
      refine sn_lp2_walk (Gd := fun (i7 : Int32) (S8 : sn_S) => sn_G LoM w rmX9_runHour Qq sn_noE C 0 0 19 [(0, .ref (w.2.2.1 0)), (1, .int p1), (2, .int p2), (3, .int i2), (4, .int i7)] [] S8) ?_ _ _
      intro rc9 hrc9 i7 S8
      refine sn_iload hO 4 rfl dX9_runHour_19 ?_
      refine sn_aload_n hO 0 rfl dX9_runHour_21 ?_
      refine sn_getF hO fmX9_13 atM_0 dX9_runHour_22 ?_
      refine sn_iconst hO kc_0 dX9_runHour_25 ?_
      refine sn_iald hO atM_2 rfl dX9_runHour_26 ?_
      refine sn_icmp_ge hO 98 (by decide) dX9_runHour_27 ?_ ?_
      · refine sn_sub [0, 1, 2, 3] rfl ?_
        exact hk6 _
      · refine sn_iload_n hO 3 rfl dX9_runHour_30 ?_
        refine sn_iconst hO kc_1 dX9_runHour_31 ?_
        refine sn_iadd hO dX9_runHour_32 ?_
        refine sn_aload_n hO 0 rfl dX9_runHour_33 ?_
        refine sn_iload hO 4 rfl dX9_runHour_34 ?_
        refine sn_iconst hO kc_2 dX9_runHour_36 ?_
        refine sn_callV hO (c2 := 0) (s2 := 0) [.int i7, .int 2] cvX9_169 (fun _ => sn_Rv_K atM_0) ctX9_ofSnail ⟨Nat.le_of_ble_eq_true rfl, Nat.le_of_ble_eq_true rfl⟩ rfl rfl (Nat.le_of_ble_eq_true rfl) ⟨Nat.le_of_ble_eq_true rfl, Nat.le_of_ble_eq_true rfl, rfl, rfl⟩ dX9_runHour_37 (sn_bIp (fun r10 => ?_)) sn_x0
        refine sn_iremP hO dX9_runHour_40 ?_
        refine sn_jn_walk (fun (k : sn_S → Prop) => ∀ (S11 : sn_S), k S11 → sn_G LoM w rmX9_runHour Qq sn_noE C 0 0 73 [(0, .ref (w.2.2.1 0)), (1, .int p1), (2, .int p2), (3, .int i2), (4, .int i7)] [] S11) ?_ ?_
        · intro S11
          refine sn_aload_n hO 0 rfl dX9_runHour_73 ?_
          refine sn_getF hO fmX9_99 atM_0 dX9_runHour_74 ?_
          refine sn_bipush hO kb_60 dX9_runHour_77 ?_
          refine sn_iload hO 4 rfl dX9_runHour_79 ?_
          refine sn_imul hO dX9_runHour_81 ?_
          refine sn_iload_n hO 3 rfl dX9_runHour_82 ?_
          refine sn_iadd hO dX9_runHour_83 ?_
          refine sn_aload_n hO 0 rfl dX9_runHour_84 ?_
          refine sn_getF hO fmX9_84 atM_0 dX9_runHour_85 ?_
          refine sn_iload hO 4 rfl dX9_runHour_88 ?_
          refine sn_iald hO atM_15 rfl dX9_runHour_90 ?_
          refine sn_iast hO atM_20 rfl dX9_runHour_91 ?_
          refine sn_nmS (fun S13 => ?_)
          refine sn_iinc hO (lv' := [(4, .int (i7 + 1)), (0, .ref (w.2.2.1 0)), (1, .int p1), (2, .int p2), (3, .int i2)]) 4 rfl ki_1 (by decide) rfl dX9_runHour_92 ?_
          refine sn_goto hO 19 (by decide) dX9_runHour_95 ?_
          refine sn_sub [1, 2, 3, 4, 0] rfl ?_
          exact hrc9 _ _
        · intro k12 hk12
          refine sn_if_ne hO 73 (by decide) dX9_runHour_41 ?_ ?_
          · exact hk12 _
          · refine sn_aload_n hO 0 rfl dX9_runHour_44 ?_
            refine sn_getF hO fmX9_87 atM_0 dX9_runHour_45 ?_
            refine sn_iload hO 4 rfl dX9_runHour_48 ?_
            refine sn_iald hO atM_16 rfl dX9_runHour_50 ?_
            refine sn_iconst hO kc_m1 dX9_runHour_51 ?_
            refine sn_icmp_ne hO 73 (by decide) dX9_runHour_52 ?_ ?_
            · exact hk12 _
            · refine sn_aload_n hO 0 rfl dX9_runHour_55 ?_
              refine sn_getF hO fmX9_90 atM_0 dX9_runHour_56 ?_
              refine sn_iload hO 4 rfl dX9_runHour_59 ?_
              refine sn_zald hO atM_17 rfl dX9_runHour_61 ?_
              refine sn_if_ne hO 73 (by decide) dX9_runHour_62 ?_ ?_
              · exact hk12 _
              · refine sn_aload_n hO 0 rfl dX9_runHour_65 ?_
                refine sn_iload hO 4 rfl dX9_runHour_66 ?_
                refine sn_iload_n hO 3 rfl dX9_runHour_68 ?_
                refine sn_iload_n hO 2 rfl dX9_runHour_69 ?_
                refine sn_callV hO (c2 := 0) (s2 := 0) [.int i7, .int i2, .int p2] cvX9_389 (fun _ => sn_Rv_K atM_0) ctX9_creep ⟨Nat.le_of_ble_eq_true rfl, Nat.le_of_ble_eq_true rfl⟩ rfl rfl (Nat.le_of_ble_eq_true rfl) ⟨Nat.le_of_ble_eq_true rfl, Nat.le_of_ble_eq_true rfl, rfl, rfl⟩ dX9_runHour_70 (sn_bV (fun S14 => ?_)) sn_x0
                exact hk12 _
theorem ctX9_runHour {w : sn_W} {p1 : Int32} {p2 : Int32} {S : sn_S} {Q : sn_S → Prop} (h : wpX9_runHour p1 p2 S Q) : sn_Ct LoM w yX9_runHour (ws_ yX9_runHour cX9_runHour 5 none) rmX9_runHour [.ref (w.2.2.1 0), .int p1, .int p2] S (sn_qV Q) sn_noE := sn_Ct_of (LoM_X w) (by decide) (Nat.le_of_ble_eq_true rfl) RX9 rfl (fun C hO => wkX9_runHour hO p1 p2 S Q h)
def rmX9_runPlan : Room := { frames := 7, cells := 0, slots := 0, locals := 186 }
/-- SnailPostModel.runPlan()V -/
def wpX9_runPlan (S : sn_S) (Q : sn_S → Prop) : Prop :=
  wpX9_dawn S (fun (S1 : sn_S) => sn_lp2 (fun (rc4 : Int32 → sn_S → Prop) (i2 : Int32) (S3 : sn_S) => ((5 ≤ i2 → Q S3) ∧ (¬ 5 ≤ i2 → (vp_in (7 + i2) 5680 ∧ wpX9_runHour i2 (S3.1 2 ((7 + i2)).toNatClampNeg) S3 (fun (S5 : sn_S) => rc4 (i2 + 1) S5))))) 0 S1)
theorem wkX9_runPlan {w : sn_W} {C : sn_C} (hO : sn_Ok LoM w C RX9 cX9_runPlan 2 none [] "runPlan") (S : sn_S) (Q : sn_S → Prop) : wpX9_runPlan S Q → sn_G LoM w rmX9_runPlan (sn_qV Q) sn_noE C 0 0 0 [(0, .ref (w.2.2.1 0))] [] S := by
  unfold wpX9_runPlan
  generalize hQq : (sn_qV Q) = Qq
  refine sn_aload_n hO 0 rfl dX9_runPlan_0 ?_
  refine sn_callV hO (c2 := 0) (s2 := 0) [] cvX9_401 (fun _ => sn_Rv_K atM_0) ctX9_dawn ⟨Nat.le_of_ble_eq_true rfl, Nat.le_of_ble_eq_true rfl⟩ rfl rfl (Nat.le_of_ble_eq_true rfl) ⟨Nat.le_of_ble_eq_true rfl, Nat.le_of_ble_eq_true rfl, rfl, rfl⟩ dX9_runPlan_1 (sn_bV (fun S1 => ?_)) sn_x0
  refine sn_iconst hO kc_0 dX9_runPlan_4 ?_
  refine sn_istore_n hO (lv' := [(1, .int 0), (0, .ref (w.2.2.1 0))]) (by decide) rfl dX9_runPlan_5 ?_
  refine sn_sub [1, 0] rfl ?_
  refine sn_lp2_walk (Gd := fun (i2 : Int32) (S3 : sn_S) => sn_G LoM w rmX9_runPlan Qq sn_noE C 0 0 6 [(0, .ref (w.2.2.1 0)), (1, .int i2)] [] S3) ?_ _ _
  intro rc4 hrc4 i2 S3
  refine sn_iload_n hO 1 rfl dX9_runPlan_6 ?_
  refine sn_iconst hO kc_5 dX9_runPlan_7 ?_
  refine sn_icmp_ge hO 31 (by decide) dX9_runPlan_8 ?_ ?_
  · subst hQq
    exact sn_vret hO rfl dX9_runPlan_31
  · refine sn_aload_n hO 0 rfl dX9_runPlan_11 ?_
    refine sn_iload_n hO 1 rfl dX9_runPlan_12 ?_
    refine sn_aload_n hO 0 rfl dX9_runPlan_13 ?_
    refine sn_getF hO fmX9_13 atM_0 dX9_runPlan_14 ?_
    refine sn_bipush hO kb_7 dX9_runPlan_17 ?_
    refine sn_iload_n hO 1 rfl dX9_runPlan_19 ?_
    refine sn_iadd hO dX9_runPlan_20 ?_
    refine sn_iald hO atM_2 rfl dX9_runPlan_21 ?_
    refine sn_callV hO (c2 := 0) (s2 := 0) [.int i2, .int (S3.1 2 ((7 + i2)).toNatClampNeg)] cvX9_404 (fun _ => sn_Rv_K atM_0) ctX9_runHour ⟨Nat.le_of_ble_eq_true rfl, Nat.le_of_ble_eq_true rfl⟩ rfl rfl (Nat.le_of_ble_eq_true rfl) ⟨Nat.le_of_ble_eq_true rfl, Nat.le_of_ble_eq_true rfl, rfl, rfl⟩ dX9_runPlan_22 (sn_bV (fun S5 => ?_)) sn_x0
    refine sn_iinc hO (lv' := [(1, .int (i2 + 1)), (0, .ref (w.2.2.1 0))]) 1 rfl ki_1 (by decide) rfl dX9_runPlan_25 ?_
    refine sn_goto hO 6 (by decide) dX9_runPlan_28 ?_
    refine sn_sub [1, 0] rfl ?_
    exact hrc4 _ _
theorem ctX9_runPlan {w : sn_W} {S : sn_S} {Q : sn_S → Prop} (h : wpX9_runPlan S Q) : sn_Ct LoM w yX9_runPlan (ws_ yX9_runPlan cX9_runPlan 2 none) rmX9_runPlan [.ref (w.2.2.1 0)] S (sn_qV Q) sn_noE := sn_Ct_of (LoM_X w) (by decide) (Nat.le_of_ble_eq_true rfl) RX9 rfl (fun C hO => wkX9_runPlan hO S Q h)
def rmX9_where : Room := { frames := 8, cells := 0, slots := 0, locals := 207 }
/-- SnailPostModel.where(II)I -/
def wpX9_where (p1 : Int32) (p2 : Int32) (S : sn_S) (Q : Int32 → sn_S → Prop) : Prop :=
  sn_lt (sn_pI S 0 0 0) (fun S1 => wpX9_isSnail p1 S1 (fun (r2 : Int32) => ((r2 = 0 → Q (-1) S1) ∧ (¬ r2 = 0 → wpX9_in (Int32.toInt64 p2) (-1) 59 (fun (r3 : Int32) => ((¬ r3 = 0 → ((¬ p2 = (-1) → wpX9_runPlan S1 (fun (S4 : sn_S) => (vp_in ((60 * p1) + p2) 360 ∧ Q (S4.1 20 (((60 * p1) + p2)).toNatClampNeg) S4))) ∧ (p2 = (-1) → wpX9_ofSnail p1 0 S1 (fun (r5 : Int32) => Q r5 S1)))) ∧ (r3 = 0 → Q (-1) S1)))))))
theorem wkX9_where {w : sn_W} {C : sn_C} (hO : sn_Ok LoM w C RX9 cX9_where 3 (some .int) [] "where") (p1 : Int32) (p2 : Int32) (S : sn_S) (Q : Int32 → sn_S → Prop) : wpX9_where p1 p2 S Q → sn_G LoM w rmX9_where (sn_qI Q) sn_noE C 0 0 0 [(0, .ref (w.2.2.1 0)), (1, .int p1), (2, .int p2)] [] S := by
  unfold wpX9_where
  generalize hQq : (sn_qI Q) = Qq
  refine sn_aload_n hO 0 rfl dX9_where_0 ?_
  refine sn_iconst hO kc_0 dX9_where_1 ?_
  refine sn_putI hO fmX9_150 atM_0 rfl rfl dX9_where_2 ?_
  refine sn_nmS (fun S1 => ?_)
  refine sn_aload_n hO 0 rfl dX9_where_5 ?_
  refine sn_iload_n hO 1 rfl dX9_where_6 ?_
  refine sn_callV hO (c2 := 0) (s2 := 0) [.int p1] cvX9_197 (fun _ => sn_Rv_K atM_0) ctX9_isSnail ⟨Nat.le_of_ble_eq_true rfl, Nat.le_of_ble_eq_true rfl⟩ rfl rfl (Nat.le_of_ble_eq_true rfl) ⟨Nat.le_of_ble_eq_true rfl, Nat.le_of_ble_eq_true rfl, rfl, rfl⟩ dX9_where_7 (sn_bIp (fun r2 => ?_)) sn_x0
  refine sn_if_eq hO 27 (by decide) dX9_where_10 ?_ ?_
  · refine sn_iconst hO kc_m1 dX9_where_27 ?_
    subst hQq
    exact sn_iret hO rfl dX9_where_28
  · refine sn_iload_n hO 2 rfl dX9_where_13 ?_
    refine sn_i2l hO dX9_where_14 ?_
    refine sn_ldc2 hO q1764 dX9_where_15 ?_
    refine sn_ldc2 hO q1854 dX9_where_18 ?_
    refine sn_callS hO (c2 := 0) (s2 := 0) [.long (Int32.toInt64 p2), .long (-1), .long 59] csX9_160 ctX9_in ⟨Nat.le_of_ble_eq_true rfl, Nat.le_of_ble_eq_true rfl⟩ rfl rfl (Nat.le_of_ble_eq_true rfl) ⟨Nat.le_of_ble_eq_true rfl, Nat.le_of_ble_eq_true rfl, rfl, rfl⟩ dX9_where_21 (sn_bIp (fun r3 => ?_)) sn_x0
    refine sn_if_ne hO 29 (by decide) dX9_where_24 ?_ ?_
    · refine sn_iload_n hO 2 rfl dX9_where_29 ?_
      refine sn_iconst hO kc_m1 dX9_where_30 ?_
      refine sn_icmp_ne hO 41 (by decide) dX9_where_31 ?_ ?_
      · refine sn_aload_n hO 0 rfl dX9_where_41 ?_
        refine sn_callV hO (c2 := 0) (s2 := 0) [] cvX9_409 (fun _ => sn_Rv_K atM_0) ctX9_runPlan ⟨Nat.le_of_ble_eq_true rfl, Nat.le_of_ble_eq_true rfl⟩ rfl rfl (Nat.le_of_ble_eq_true rfl) ⟨Nat.le_of_ble_eq_true rfl, Nat.le_of_ble_eq_true rfl, rfl, rfl⟩ dX9_where_42 (sn_bV (fun S4 => ?_)) sn_x0
        refine sn_aload_n hO 0 rfl dX9_where_45 ?_
        refine sn_getF hO fmX9_99 atM_0 dX9_where_46 ?_
        refine sn_bipush hO kb_60 dX9_where_49 ?_
        refine sn_iload_n hO 1 rfl dX9_where_51 ?_
        refine sn_imul hO dX9_where_52 ?_
        refine sn_iload_n hO 2 rfl dX9_where_53 ?_
        refine sn_iadd hO dX9_where_54 ?_
        refine sn_iald hO atM_20 rfl dX9_where_55 ?_
        subst hQq
        exact sn_iret hO rfl dX9_where_56
      · refine sn_aload_n hO 0 rfl dX9_where_34 ?_
        refine sn_iload_n hO 1 rfl dX9_where_35 ?_
        refine sn_iconst hO kc_0 dX9_where_36 ?_
        refine sn_callV hO (c2 := 0) (s2 := 0) [.int p1, .int 0] cvX9_169 (fun _ => sn_Rv_K atM_0) ctX9_ofSnail ⟨Nat.le_of_ble_eq_true rfl, Nat.le_of_ble_eq_true rfl⟩ rfl rfl (Nat.le_of_ble_eq_true rfl) ⟨Nat.le_of_ble_eq_true rfl, Nat.le_of_ble_eq_true rfl, rfl, rfl⟩ dX9_where_37 (sn_bIp (fun r5 => ?_)) sn_x0
        subst hQq
        exact sn_iret hO rfl dX9_where_40
    · refine sn_iconst hO kc_m1 dX9_where_27 ?_
      subst hQq
      exact sn_iret hO rfl dX9_where_28
theorem ctX9_where {w : sn_W} {p1 : Int32} {p2 : Int32} {S : sn_S} {Q : Int32 → sn_S → Prop} (h : wpX9_where p1 p2 S Q) : sn_Ct LoM w yX9_where (ws_ yX9_where cX9_where 3 (some .int)) rmX9_where [.ref (w.2.2.1 0), .int p1, .int p2] S (sn_qI Q) sn_noE := sn_Ct_of (LoM_X w) (by decide) (Nat.le_of_ble_eq_true rfl) RX9 rfl (fun C hO => wkX9_where hO p1 p2 S Q h)
def rmX9_day : Room := { frames := 8, cells := 0, slots := 0, locals := 207 }
/-- SnailPostModel.day(II)I -/
def wpX9_day (p1 : Int32) (p2 : Int32) (S : sn_S) (Q : Int32 → sn_S → Prop) : Prop :=
  sn_lt (sn_pI S 0 0 0) (fun S1 => wpX9_isSnail p1 S1 (fun (r2 : Int32) => ((r2 = 0 → Q (-1) S1) ∧ (¬ r2 = 0 → wpX9_in (Int32.toInt64 p2) 0 2 (fun (r3 : Int32) => ((¬ r3 = 0 → wpX9_runPlan S1 (fun (S4 : sn_S) => sn_jn (fun (v5 : Int32) => ((¬ p2 = 0 → ((¬ p2 = 1 → (vp_in p1 6 ∧ Q (S4.1 19 (p1).toNatClampNeg) S4)) ∧ (p2 = 1 → Q v5 S4))) ∧ (p2 = 0 → (vp_in p1 6 ∧ Q (S4.1 16 (p1).toNatClampNeg) S4)))) (fun (k6 : Int32 → Prop) => sn_lp2 (fun (rc9 : Int32 → Int32 → Prop) (i7 : Int32) (i8 : Int32) => ((96 ≤ i8 → k6 i7) ∧ (¬ 96 ≤ i8 → (vp_in i8 96 ∧ sn_lt (i7 + (((S4.1 18 (i8).toNatClampNeg) >>> (p1 &&& 31)) &&& 1)) (fun x10 => rc9 x10 (i8 + 1)))))) 0 0))) ∧ (r3 = 0 → Q (-1) S1)))))))
theorem wkX9_day {w : sn_W} {C : sn_C} (hO : sn_Ok LoM w C RX9 cX9_day 5 (some .int) [] "day") (p1 : Int32) (p2 : Int32) (S : sn_S) (Q : Int32 → sn_S → Prop) : wpX9_day p1 p2 S Q → sn_G LoM w rmX9_day (sn_qI Q) sn_noE C 0 0 0 [(0, .ref (w.2.2.1 0)), (1, .int p1), (2, .int p2)] [] S := by
  unfold wpX9_day
  generalize hQq : (sn_qI Q) = Qq
  refine sn_aload_n hO 0 rfl dX9_day_0 ?_
  refine sn_iconst hO kc_0 dX9_day_1 ?_
  refine sn_putI hO fmX9_150 atM_0 rfl rfl dX9_day_2 ?_
  refine sn_nmS (fun S1 => ?_)
  refine sn_aload_n hO 0 rfl dX9_day_5 ?_
  refine sn_iload_n hO 1 rfl dX9_day_6 ?_
  refine sn_callV hO (c2 := 0) (s2 := 0) [.int p1] cvX9_197 (fun _ => sn_Rv_K atM_0) ctX9_isSnail ⟨Nat.le_of_ble_eq_true rfl, Nat.le_of_ble_eq_true rfl⟩ rfl rfl (Nat.le_of_ble_eq_true rfl) ⟨Nat.le_of_ble_eq_true rfl, Nat.le_of_ble_eq_true rfl, rfl, rfl⟩ dX9_day_7 (sn_bIp (fun r2 => ?_)) sn_x0
  refine sn_if_eq hO 25 (by decide) dX9_day_10 ?_ ?_
  · refine sn_iconst hO kc_m1 dX9_day_25 ?_
    subst hQq
    exact sn_iret hO rfl dX9_day_26
  · refine sn_iload_n hO 2 rfl dX9_day_13 ?_
    refine sn_i2l hO dX9_day_14 ?_
    refine sn_lconst hO (v := 0) rfl dX9_day_15 ?_
    refine sn_ldc2 hO q1912 dX9_day_16 ?_
    refine sn_callS hO (c2 := 0) (s2 := 0) [.long (Int32.toInt64 p2), .long 0, .long 2] csX9_160 ctX9_in ⟨Nat.le_of_ble_eq_true rfl, Nat.le_of_ble_eq_true rfl⟩ rfl rfl (Nat.le_of_ble_eq_true rfl) ⟨Nat.le_of_ble_eq_true rfl, Nat.le_of_ble_eq_true rfl, rfl, rfl⟩ dX9_day_19 (sn_bIp (fun r3 => ?_)) sn_x0
    refine sn_if_ne hO 27 (by decide) dX9_day_22 ?_ ?_
    · refine sn_aload_n hO 0 rfl dX9_day_27 ?_
      refine sn_callV hO (c2 := 0) (s2 := 0) [] cvX9_409 (fun _ => sn_Rv_K atM_0) ctX9_runPlan ⟨Nat.le_of_ble_eq_true rfl, Nat.le_of_ble_eq_true rfl⟩ rfl rfl (Nat.le_of_ble_eq_true rfl) ⟨Nat.le_of_ble_eq_true rfl, Nat.le_of_ble_eq_true rfl, rfl, rfl⟩ dX9_day_28 (sn_bV (fun S4 => ?_)) sn_x0
      refine sn_iconst hO kc_0 dX9_day_31 ?_
      refine sn_istore_n hO (lv' := [(3, .int 0), (0, .ref (w.2.2.1 0)), (1, .int p1), (2, .int p2)]) (by decide) rfl dX9_day_32 ?_
      refine sn_iconst hO kc_0 dX9_day_33 ?_
      refine sn_istore hO (lv' := [(4, .int 0), (3, .int 0), (0, .ref (w.2.2.1 0)), (1, .int p1), (2, .int p2)]) (by decide) rfl dX9_day_34 ?_
      refine sn_jn_walk (fun (k : Int32 → Prop) => ∀ (v5 : Int32), k v5 → sn_G LoM w rmX9_day Qq sn_noE C 0 0 63 [(0, .ref (w.2.2.1 0)), (1, .int p1), (2, .int p2), (3, .int v5)] [] S4) ?_ ?_
      · intro v5
        refine sn_iload_n hO 2 rfl dX9_day_63 ?_
        refine sn_if_ne hO 76 (by decide) dX9_day_64 ?_ ?_
        · refine sn_iload_n hO 2 rfl dX9_day_76 ?_
          refine sn_iconst hO kc_1 dX9_day_77 ?_
          refine sn_icmp_ne hO 85 (by decide) dX9_day_78 ?_ ?_
          · refine sn_aload_n hO 0 rfl dX9_day_85 ?_
            refine sn_getF hO fmX9_96 atM_0 dX9_day_86 ?_
            refine sn_iload_n hO 1 rfl dX9_day_89 ?_
            refine sn_iald hO atM_19 rfl dX9_day_90 ?_
            subst hQq
            exact sn_iret hO rfl dX9_day_91
          · refine sn_iload_n hO 3 rfl dX9_day_81 ?_
            refine sn_goto hO 91 (by decide) dX9_day_82 ?_
            subst hQq
            exact sn_iret hO rfl dX9_day_91
        · refine sn_aload_n hO 0 rfl dX9_day_67 ?_
          refine sn_getF hO fmX9_87 atM_0 dX9_day_68 ?_
          refine sn_iload_n hO 1 rfl dX9_day_71 ?_
          refine sn_iald hO atM_16 rfl dX9_day_72 ?_
          refine sn_goto hO 91 (by decide) dX9_day_73 ?_
          subst hQq
          exact sn_iret hO rfl dX9_day_91
      · intro k6 hk6
        refine sn_sub [2, 3, 4, 1, 0] rfl ?_
        refine sn_lp2_walk (Gd := fun (i7 : Int32) (i8 : Int32) => sn_G LoM w rmX9_day Qq sn_noE C 0 0 36 [(0, .ref (w.2.2.1 0)), (1, .int p1), (2, .int p2), (3, .int i7), (4, .int i8)] [] S4) ?_ _ _
        intro rc9 hrc9 i7 i8
        refine sn_iload hO 4 rfl dX9_day_36 ?_
        refine sn_bipush hO kb_96 dX9_day_38 ?_
        refine sn_icmp_ge hO 63 (by decide) dX9_day_40 ?_ ?_
        · refine sn_sub [0, 1, 2, 3] rfl ?_
          exact hk6 _
        · refine sn_iload_n hO 3 rfl dX9_day_43 ?_
          refine sn_aload_n hO 0 rfl dX9_day_44 ?_
          refine sn_getF hO fmX9_93 atM_0 dX9_day_45 ?_
          refine sn_iload hO 4 rfl dX9_day_48 ?_
          refine sn_iald hO atM_18 rfl dX9_day_50 ?_
          refine sn_iload_n hO 1 rfl dX9_day_51 ?_
          refine sn_ishr hO dX9_day_52 ?_
          refine sn_iconst hO kc_1 dX9_day_53 ?_
          refine sn_iand hO dX9_day_54 ?_
          refine sn_iadd hO dX9_day_55 ?_
          refine sn_nmI (fun x10 => ?_)
          refine sn_istore_n hO (lv' := [(3, .int x10), (0, .ref (w.2.2.1 0)), (1, .int p1), (2, .int p2), (4, .int i8)]) (by decide) rfl dX9_day_56 ?_
          refine sn_iinc hO (lv' := [(4, .int (i8 + 1)), (3, .int x10), (0, .ref (w.2.2.1 0)), (1, .int p1), (2, .int p2)]) 4 rfl ki_1 (by decide) rfl dX9_day_57 ?_
          refine sn_goto hO 36 (by decide) dX9_day_60 ?_
          refine sn_sub [2, 3, 4, 1, 0] rfl ?_
          exact hrc9 _ _
    · refine sn_iconst hO kc_m1 dX9_day_25 ?_
      subst hQq
      exact sn_iret hO rfl dX9_day_26
theorem ctX9_day {w : sn_W} {p1 : Int32} {p2 : Int32} {S : sn_S} {Q : Int32 → sn_S → Prop} (h : wpX9_day p1 p2 S Q) : sn_Ct LoM w yX9_day (ws_ yX9_day cX9_day 5 (some .int)) rmX9_day [.ref (w.2.2.1 0), .int p1, .int p2] S (sn_qI Q) sn_noE := sn_Ct_of (LoM_X w) (by decide) (Nat.le_of_ble_eq_true rfl) RX9 rfl (fun C hO => wkX9_day hO p1 p2 S Q h)
def rmX9_trail : Room := { frames := 8, cells := 0, slots := 0, locals := 207 }
/-- SnailPostModel.trail(I)I -/
def wpX9_trail (p1 : Int32) (S : sn_S) (Q : Int32 → sn_S → Prop) : Prop :=
  sn_lt (sn_pI S 0 0 0) (fun S1 => wpX9_isCell p1 (fun (r2 : Int32) => ((¬ r2 = 0 → wpX9_runPlan S1 (fun (S3 : sn_S) => (vp_in p1 96 ∧ Q (S3.1 18 (p1).toNatClampNeg) S3))) ∧ (r2 = 0 → Q (-1) S1))))
theorem wkX9_trail {w : sn_W} {C : sn_C} (hO : sn_Ok LoM w C RX9 cX9_trail 2 (some .int) [] "trail") (p1 : Int32) (S : sn_S) (Q : Int32 → sn_S → Prop) : wpX9_trail p1 S Q → sn_G LoM w rmX9_trail (sn_qI Q) sn_noE C 0 0 0 [(0, .ref (w.2.2.1 0)), (1, .int p1)] [] S := by
  unfold wpX9_trail
  generalize hQq : (sn_qI Q) = Qq
  refine sn_aload_n hO 0 rfl dX9_trail_0 ?_
  refine sn_iconst hO kc_0 dX9_trail_1 ?_
  refine sn_putI hO fmX9_150 atM_0 rfl rfl dX9_trail_2 ?_
  refine sn_nmS (fun S1 => ?_)
  refine sn_iload_n hO 1 rfl dX9_trail_5 ?_
  refine sn_callS hO (c2 := 0) (s2 := 0) [.int p1] csX9_173 ctX9_isCell ⟨Nat.le_of_ble_eq_true rfl, Nat.le_of_ble_eq_true rfl⟩ rfl rfl (Nat.le_of_ble_eq_true rfl) ⟨Nat.le_of_ble_eq_true rfl, Nat.le_of_ble_eq_true rfl, rfl, rfl⟩ dX9_trail_6 (sn_bIp (fun r2 => ?_)) sn_x0
  refine sn_if_ne hO 14 (by decide) dX9_trail_9 ?_ ?_
  · refine sn_aload_n hO 0 rfl dX9_trail_14 ?_
    refine sn_callV hO (c2 := 0) (s2 := 0) [] cvX9_409 (fun _ => sn_Rv_K atM_0) ctX9_runPlan ⟨Nat.le_of_ble_eq_true rfl, Nat.le_of_ble_eq_true rfl⟩ rfl rfl (Nat.le_of_ble_eq_true rfl) ⟨Nat.le_of_ble_eq_true rfl, Nat.le_of_ble_eq_true rfl, rfl, rfl⟩ dX9_trail_15 (sn_bV (fun S3 => ?_)) sn_x0
    refine sn_aload_n hO 0 rfl dX9_trail_18 ?_
    refine sn_getF hO fmX9_93 atM_0 dX9_trail_19 ?_
    refine sn_iload_n hO 1 rfl dX9_trail_22 ?_
    refine sn_iald hO atM_18 rfl dX9_trail_23 ?_
    subst hQq
    exact sn_iret hO rfl dX9_trail_24
  · refine sn_iconst hO kc_m1 dX9_trail_12 ?_
    subst hQq
    exact sn_iret hO rfl dX9_trail_13
theorem ctX9_trail {w : sn_W} {p1 : Int32} {S : sn_S} {Q : Int32 → sn_S → Prop} (h : wpX9_trail p1 S Q) : sn_Ct LoM w yX9_trail (ws_ yX9_trail cX9_trail 2 (some .int)) rmX9_trail [.ref (w.2.2.1 0), .int p1] S (sn_qI Q) sn_noE := sn_Ct_of (LoM_X w) (by decide) (Nat.le_of_ble_eq_true rfl) RX9 rfl (fun C hO => wkX9_trail hO p1 S Q h)
def rmX9_arePlanned : Room := { frames := 1, cells := 0, slots := 0, locals := 25 }
/-- SnailPostModel.arePlanned(II)Z -/
def wpX9_arePlanned (p1 : Int32) (p2 : Int32) (S : sn_S) (Q : Int32 → Prop) : Prop :=
  wpX9_in (Int32.toInt64 p1) 1 5 (fun (r1 : Int32) => ((r1 = 0 → Q 0) ∧ (¬ r1 = 0 → (vp_in 0 5680 ∧ wpX9_in (Int32.toInt64 p2) 0 ((Int32.toInt64 (1 <<< ((S.1 2 (0 : Int32).toNatClampNeg) &&& 31))) - 1) (fun (r2 : Int32) => ((r2 = 0 → Q 0) ∧ (¬ r2 = 0 → Q 1)))))))
theorem wkX9_arePlanned {w : sn_W} {C : sn_C} (hO : sn_Ok LoM w C RX9 cX9_arePlanned 3 (some .boolean) [] "arePlanned") (p1 : Int32) (p2 : Int32) (S : sn_S) (Q : Int32 → Prop) : wpX9_arePlanned p1 p2 S Q → sn_G LoM w rmX9_arePlanned (sn_qI (fun r S1 => S1 = S ∧ Q r)) sn_noE C 0 0 0 [(0, .ref (w.2.2.1 0)), (1, .int p1), (2, .int p2)] [] S := by
  unfold wpX9_arePlanned
  generalize hQq : (sn_qI (fun r S1 => S1 = S ∧ Q r)) = Qq
  refine sn_iload_n hO 1 rfl dX9_arePlanned_0 ?_
  refine sn_i2l hO dX9_arePlanned_1 ?_
  refine sn_lconst hO (v := 1) rfl dX9_arePlanned_2 ?_
  refine sn_ldc2 hO q1705 dX9_arePlanned_3 ?_
  refine sn_callS hO (c2 := 0) (s2 := 0) [.long (Int32.toInt64 p1), .long 1, .long 5] csX9_160 ctX9_in ⟨Nat.le_of_ble_eq_true rfl, Nat.le_of_ble_eq_true rfl⟩ rfl rfl (Nat.le_of_ble_eq_true rfl) ⟨Nat.le_of_ble_eq_true rfl, Nat.le_of_ble_eq_true rfl, rfl, rfl⟩ dX9_arePlanned_6 (sn_bIp (fun r1 => ?_)) sn_x0
  refine sn_if_eq hO 36 (by decide) dX9_arePlanned_9 ?_ ?_
  · refine sn_iconst hO kc_0 dX9_arePlanned_36 ?_
    subst hQq
    exact fun h => sn_zret hO (ty := .boolean) rfl rfl dX9_arePlanned_37 ⟨rfl, h⟩
  · refine sn_iload_n hO 2 rfl dX9_arePlanned_12 ?_
    refine sn_i2l hO dX9_arePlanned_13 ?_
    refine sn_lconst hO (v := 0) rfl dX9_arePlanned_14 ?_
    refine sn_iconst hO kc_1 dX9_arePlanned_15 ?_
    refine sn_aload_n hO 0 rfl dX9_arePlanned_16 ?_
    refine sn_getF hO fmX9_13 atM_0 dX9_arePlanned_17 ?_
    refine sn_iconst hO kc_0 dX9_arePlanned_20 ?_
    refine sn_iald hO atM_2 rfl dX9_arePlanned_21 ?_
    refine sn_ishl hO dX9_arePlanned_22 ?_
    refine sn_i2l hO dX9_arePlanned_23 ?_
    refine sn_lconst hO (v := 1) rfl dX9_arePlanned_24 ?_
    refine sn_lsub hO dX9_arePlanned_25 ?_
    refine sn_callS hO (c2 := 0) (s2 := 0) [.long (Int32.toInt64 p2), .long 0, .long ((Int32.toInt64 (1 <<< ((S.1 2 (0 : Int32).toNatClampNeg) &&& 31))) - 1)] csX9_160 ctX9_in ⟨Nat.le_of_ble_eq_true rfl, Nat.le_of_ble_eq_true rfl⟩ rfl rfl (Nat.le_of_ble_eq_true rfl) ⟨Nat.le_of_ble_eq_true rfl, Nat.le_of_ble_eq_true rfl, rfl, rfl⟩ dX9_arePlanned_26 (sn_bIp (fun r2 => ?_)) sn_x0
    refine sn_if_eq hO 36 (by decide) dX9_arePlanned_29 ?_ ?_
    · refine sn_iconst hO kc_0 dX9_arePlanned_36 ?_
      subst hQq
      exact fun h => sn_zret hO (ty := .boolean) rfl rfl dX9_arePlanned_37 ⟨rfl, h⟩
    · refine sn_iconst hO kc_1 dX9_arePlanned_32 ?_
      refine sn_goto hO 37 (by decide) dX9_arePlanned_33 ?_
      subst hQq
      exact fun h => sn_zret hO (ty := .boolean) rfl rfl dX9_arePlanned_37 ⟨rfl, h⟩
theorem ctX9_arePlanned {w : sn_W} {p1 : Int32} {p2 : Int32} {S : sn_S} {Q : Int32 → Prop} (h : wpX9_arePlanned p1 p2 S Q) : sn_Ct LoM w yX9_arePlanned (ws_ yX9_arePlanned cX9_arePlanned 3 (some .boolean)) rmX9_arePlanned [.ref (w.2.2.1 0), .int p1, .int p2] S (sn_qI (fun r S1 => S1 = S ∧ Q r)) sn_noE := sn_Ct_of (LoM_X w) (by decide) (Nat.le_of_ble_eq_true rfl) RX9 rfl (fun C hO => wkX9_arePlanned hO p1 p2 S Q h)
def rmX9_keepGarden : Room := { frames := 0, cells := 0, slots := 0, locals := 0 }
/-- SnailPostModel.keepGarden(I)V -/
def wpX9_keepGarden (p1 : Int32) (S : sn_S) (Q : sn_S → Prop) : Prop :=
  sn_jn (fun (S1 : sn_S) => sn_lp2 (fun (rc5 : Int32 → sn_S → Prop) (i3 : Int32) (S4 : sn_S) => ((96 ≤ i3 → Q S4) ∧ (¬ 96 ≤ i3 → (vp_in i3 96 ∧ (vp_in ((96 * p1) + i3) 576 ∧ sn_lt (sn_pI S4 23 (((96 * p1) + i3)).toNatClampNeg (S4.1 18 (i3).toNatClampNeg)) (fun S6 => rc5 (i3 + 1) S6)))))) 0 S1) (fun (k2 : sn_S → Prop) => sn_lp2 (fun (rc9 : Int32 → sn_S → Prop) (i7 : Int32) (S8 : sn_S) => ((6 ≤ i7 → k2 S8) ∧ (¬ 6 ≤ i7 → (vp_in i7 6 ∧ (vp_in ((6 * p1) + i7) 36 ∧ sn_lt (sn_pI S8 21 (((6 * p1) + i7)).toNatClampNeg (S8.1 15 (i7).toNatClampNeg)) (fun S10 => (vp_in i7 6 ∧ (vp_in ((6 * p1) + i7) 36 ∧ sn_lt (sn_pI S10 22 (((6 * p1) + i7)).toNatClampNeg (S10.1 16 (i7).toNatClampNeg)) (fun S11 => rc9 (i7 + 1) S11))))))))) 0 S)
theorem wkX9_keepGarden {w : sn_W} {C : sn_C} (hO : sn_Ok LoM w C RX9 cX9_keepGarden 3 none [] "keepGarden") (p1 : Int32) (S : sn_S) (Q : sn_S → Prop) : wpX9_keepGarden p1 S Q → sn_G LoM w rmX9_keepGarden (sn_qV Q) sn_noE C 0 0 0 [(0, .ref (w.2.2.1 0)), (1, .int p1)] [] S := by
  unfold wpX9_keepGarden
  generalize hQq : (sn_qV Q) = Qq
  refine sn_iconst hO kc_0 dX9_keepGarden_0 ?_
  refine sn_istore_n hO (lv' := [(2, .int 0), (0, .ref (w.2.2.1 0)), (1, .int p1)]) (by decide) rfl dX9_keepGarden_1 ?_
  refine sn_jn_walk (fun (k : sn_S → Prop) => ∀ (S1 : sn_S), k S1 → sn_G LoM w rmX9_keepGarden Qq sn_noE C 0 0 48 [(0, .ref (w.2.2.1 0)), (1, .int p1)] [] S1) ?_ ?_
  · intro S1
    refine sn_iconst hO kc_0 dX9_keepGarden_48 ?_
    refine sn_istore_n hO (lv' := [(2, .int 0), (0, .ref (w.2.2.1 0)), (1, .int p1)]) (by decide) rfl dX9_keepGarden_49 ?_
    refine sn_sub [1, 2, 0] rfl ?_
    refine sn_lp2_walk (Gd := fun (i3 : Int32) (S4 : sn_S) => sn_G LoM w rmX9_keepGarden Qq sn_noE C 0 0 50 [(0, .ref (w.2.2.1 0)), (1, .int p1), (2, .int i3)] [] S4) ?_ _ _
    intro rc5 hrc5 i3 S4
    refine sn_iload_n hO 2 rfl dX9_keepGarden_50 ?_
    refine sn_bipush hO kb_96 dX9_keepGarden_51 ?_
    refine sn_icmp_ge hO 79 (by decide) dX9_keepGarden_53 ?_ ?_
    · subst hQq
      exact sn_vret hO rfl dX9_keepGarden_79
    · refine sn_aload_n hO 0 rfl dX9_keepGarden_56 ?_
      refine sn_getF hO fmX9_108 atM_0 dX9_keepGarden_57 ?_
      refine sn_bipush hO kb_96 dX9_keepGarden_60 ?_
      refine sn_iload_n hO 1 rfl dX9_keepGarden_62 ?_
      refine sn_imul hO dX9_keepGarden_63 ?_
      refine sn_iload_n hO 2 rfl dX9_keepGarden_64 ?_
      refine sn_iadd hO dX9_keepGarden_65 ?_
      refine sn_aload_n hO 0 rfl dX9_keepGarden_66 ?_
      refine sn_getF hO fmX9_93 atM_0 dX9_keepGarden_67 ?_
      refine sn_iload_n hO 2 rfl dX9_keepGarden_70 ?_
      refine sn_iald hO atM_18 rfl dX9_keepGarden_71 ?_
      refine sn_iast hO atM_23 rfl dX9_keepGarden_72 ?_
      refine sn_nmS (fun S6 => ?_)
      refine sn_iinc hO (lv' := [(2, .int (i3 + 1)), (0, .ref (w.2.2.1 0)), (1, .int p1)]) 2 rfl ki_1 (by decide) rfl dX9_keepGarden_73 ?_
      refine sn_goto hO 50 (by decide) dX9_keepGarden_76 ?_
      refine sn_sub [1, 2, 0] rfl ?_
      exact hrc5 _ _
  · intro k2 hk2
    refine sn_sub [1, 2, 0] rfl ?_
    refine sn_lp2_walk (Gd := fun (i7 : Int32) (S8 : sn_S) => sn_G LoM w rmX9_keepGarden Qq sn_noE C 0 0 2 [(0, .ref (w.2.2.1 0)), (1, .int p1), (2, .int i7)] [] S8) ?_ _ _
    intro rc9 hrc9 i7 S8
    refine sn_iload_n hO 2 rfl dX9_keepGarden_2 ?_
    refine sn_bipush hO kb_6 dX9_keepGarden_3 ?_
    refine sn_icmp_ge hO 48 (by decide) dX9_keepGarden_5 ?_ ?_
    · refine sn_sub [0, 1] rfl ?_
      exact hk2 _
    · refine sn_aload_n hO 0 rfl dX9_keepGarden_8 ?_
      refine sn_getF hO fmX9_102 atM_0 dX9_keepGarden_9 ?_
      refine sn_bipush hO kb_6 dX9_keepGarden_12 ?_
      refine sn_iload_n hO 1 rfl dX9_keepGarden_14 ?_
      refine sn_imul hO dX9_keepGarden_15 ?_
      refine sn_iload_n hO 2 rfl dX9_keepGarden_16 ?_
      refine sn_iadd hO dX9_keepGarden_17 ?_
      refine sn_aload_n hO 0 rfl dX9_keepGarden_18 ?_
      refine sn_getF hO fmX9_84 atM_0 dX9_keepGarden_19 ?_
      refine sn_iload_n hO 2 rfl dX9_keepGarden_22 ?_
      refine sn_iald hO atM_15 rfl dX9_keepGarden_23 ?_
      refine sn_iast hO atM_21 rfl dX9_keepGarden_24 ?_
      refine sn_nmS (fun S10 => ?_)
      refine sn_aload_n hO 0 rfl dX9_keepGarden_25 ?_
      refine sn_getF hO fmX9_105 atM_0 dX9_keepGarden_26 ?_
      refine sn_bipush hO kb_6 dX9_keepGarden_29 ?_
      refine sn_iload_n hO 1 rfl dX9_keepGarden_31 ?_
      refine sn_imul hO dX9_keepGarden_32 ?_
      refine sn_iload_n hO 2 rfl dX9_keepGarden_33 ?_
      refine sn_iadd hO dX9_keepGarden_34 ?_
      refine sn_aload_n hO 0 rfl dX9_keepGarden_35 ?_
      refine sn_getF hO fmX9_87 atM_0 dX9_keepGarden_36 ?_
      refine sn_iload_n hO 2 rfl dX9_keepGarden_39 ?_
      refine sn_iald hO atM_16 rfl dX9_keepGarden_40 ?_
      refine sn_iast hO atM_22 rfl dX9_keepGarden_41 ?_
      refine sn_nmS (fun S11 => ?_)
      refine sn_iinc hO (lv' := [(2, .int (i7 + 1)), (0, .ref (w.2.2.1 0)), (1, .int p1)]) 2 rfl ki_1 (by decide) rfl dX9_keepGarden_42 ?_
      refine sn_goto hO 2 (by decide) dX9_keepGarden_45 ?_
      refine sn_sub [1, 2, 0] rfl ?_
      exact hrc9 _ _
theorem ctX9_keepGarden {w : sn_W} {p1 : Int32} {S : sn_S} {Q : sn_S → Prop} (h : wpX9_keepGarden p1 S Q) : sn_Ct LoM w yX9_keepGarden (ws_ yX9_keepGarden cX9_keepGarden 3 none) rmX9_keepGarden [.ref (w.2.2.1 0), .int p1] S (sn_qV Q) sn_noE := sn_Ct_of (LoM_X w) (by decide) (Nat.le_of_ble_eq_true rfl) RX9 rfl (fun C hO => wkX9_keepGarden hO p1 S Q h)
def rmX9_backTo : Room := { frames := 0, cells := 0, slots := 0, locals := 0 }
/-- SnailPostModel.backTo(I)V -/
def wpX9_backTo (p1 : Int32) (S : sn_S) (Q : sn_S → Prop) : Prop :=
  sn_jn (fun (S1 : sn_S) => sn_lp2 (fun (rc5 : Int32 → sn_S → Prop) (i3 : Int32) (S4 : sn_S) => ((96 ≤ i3 → Q S4) ∧ (¬ 96 ≤ i3 → (vp_in ((96 * p1) + i3) 576 ∧ (vp_in i3 96 ∧ sn_lt (sn_pI S4 18 (i3).toNatClampNeg (S4.1 23 (((96 * p1) + i3)).toNatClampNeg)) (fun S6 => rc5 (i3 + 1) S6)))))) 0 S1) (fun (k2 : sn_S → Prop) => sn_lp2 (fun (rc9 : Int32 → sn_S → Prop) (i7 : Int32) (S8 : sn_S) => ((6 ≤ i7 → k2 S8) ∧ (¬ 6 ≤ i7 → (vp_in ((6 * p1) + i7) 36 ∧ (vp_in i7 6 ∧ sn_lt (sn_pI S8 15 (i7).toNatClampNeg (S8.1 21 (((6 * p1) + i7)).toNatClampNeg)) (fun S10 => (vp_in ((6 * p1) + i7) 36 ∧ (vp_in i7 6 ∧ sn_lt (sn_pI S10 16 (i7).toNatClampNeg (S10.1 22 (((6 * p1) + i7)).toNatClampNeg)) (fun S11 => rc9 (i7 + 1) S11))))))))) 0 S)
theorem wkX9_backTo {w : sn_W} {C : sn_C} (hO : sn_Ok LoM w C RX9 cX9_backTo 3 none [] "backTo") (p1 : Int32) (S : sn_S) (Q : sn_S → Prop) : wpX9_backTo p1 S Q → sn_G LoM w rmX9_backTo (sn_qV Q) sn_noE C 0 0 0 [(0, .ref (w.2.2.1 0)), (1, .int p1)] [] S := by
  unfold wpX9_backTo
  generalize hQq : (sn_qV Q) = Qq
  refine sn_iconst hO kc_0 dX9_backTo_0 ?_
  refine sn_istore_n hO (lv' := [(2, .int 0), (0, .ref (w.2.2.1 0)), (1, .int p1)]) (by decide) rfl dX9_backTo_1 ?_
  refine sn_jn_walk (fun (k : sn_S → Prop) => ∀ (S1 : sn_S), k S1 → sn_G LoM w rmX9_backTo Qq sn_noE C 0 0 48 [(0, .ref (w.2.2.1 0)), (1, .int p1)] [] S1) ?_ ?_
  · intro S1
    refine sn_iconst hO kc_0 dX9_backTo_48 ?_
    refine sn_istore_n hO (lv' := [(2, .int 0), (0, .ref (w.2.2.1 0)), (1, .int p1)]) (by decide) rfl dX9_backTo_49 ?_
    refine sn_sub [1, 2, 0] rfl ?_
    refine sn_lp2_walk (Gd := fun (i3 : Int32) (S4 : sn_S) => sn_G LoM w rmX9_backTo Qq sn_noE C 0 0 50 [(0, .ref (w.2.2.1 0)), (1, .int p1), (2, .int i3)] [] S4) ?_ _ _
    intro rc5 hrc5 i3 S4
    refine sn_iload_n hO 2 rfl dX9_backTo_50 ?_
    refine sn_bipush hO kb_96 dX9_backTo_51 ?_
    refine sn_icmp_ge hO 79 (by decide) dX9_backTo_53 ?_ ?_
    · subst hQq
      exact sn_vret hO rfl dX9_backTo_79
    · refine sn_aload_n hO 0 rfl dX9_backTo_56 ?_
      refine sn_getF hO fmX9_93 atM_0 dX9_backTo_57 ?_
      refine sn_iload_n hO 2 rfl dX9_backTo_60 ?_
      refine sn_aload_n hO 0 rfl dX9_backTo_61 ?_
      refine sn_getF hO fmX9_108 atM_0 dX9_backTo_62 ?_
      refine sn_bipush hO kb_96 dX9_backTo_65 ?_
      refine sn_iload_n hO 1 rfl dX9_backTo_67 ?_
      refine sn_imul hO dX9_backTo_68 ?_
      refine sn_iload_n hO 2 rfl dX9_backTo_69 ?_
      refine sn_iadd hO dX9_backTo_70 ?_
      refine sn_iald hO atM_23 rfl dX9_backTo_71 ?_
      refine sn_iast hO atM_18 rfl dX9_backTo_72 ?_
      refine sn_nmS (fun S6 => ?_)
      refine sn_iinc hO (lv' := [(2, .int (i3 + 1)), (0, .ref (w.2.2.1 0)), (1, .int p1)]) 2 rfl ki_1 (by decide) rfl dX9_backTo_73 ?_
      refine sn_goto hO 50 (by decide) dX9_backTo_76 ?_
      refine sn_sub [1, 2, 0] rfl ?_
      exact hrc5 _ _
  · intro k2 hk2
    refine sn_sub [1, 2, 0] rfl ?_
    refine sn_lp2_walk (Gd := fun (i7 : Int32) (S8 : sn_S) => sn_G LoM w rmX9_backTo Qq sn_noE C 0 0 2 [(0, .ref (w.2.2.1 0)), (1, .int p1), (2, .int i7)] [] S8) ?_ _ _
    intro rc9 hrc9 i7 S8
    refine sn_iload_n hO 2 rfl dX9_backTo_2 ?_
    refine sn_bipush hO kb_6 dX9_backTo_3 ?_
    refine sn_icmp_ge hO 48 (by decide) dX9_backTo_5 ?_ ?_
    · refine sn_sub [0, 1] rfl ?_
      exact hk2 _
    · refine sn_aload_n hO 0 rfl dX9_backTo_8 ?_
      refine sn_getF hO fmX9_84 atM_0 dX9_backTo_9 ?_
      refine sn_iload_n hO 2 rfl dX9_backTo_12 ?_
      refine sn_aload_n hO 0 rfl dX9_backTo_13 ?_
      refine sn_getF hO fmX9_102 atM_0 dX9_backTo_14 ?_
      refine sn_bipush hO kb_6 dX9_backTo_17 ?_
      refine sn_iload_n hO 1 rfl dX9_backTo_19 ?_
      refine sn_imul hO dX9_backTo_20 ?_
      refine sn_iload_n hO 2 rfl dX9_backTo_21 ?_
      refine sn_iadd hO dX9_backTo_22 ?_
      refine sn_iald hO atM_21 rfl dX9_backTo_23 ?_
      refine sn_iast hO atM_15 rfl dX9_backTo_24 ?_
      refine sn_nmS (fun S10 => ?_)
      refine sn_aload_n hO 0 rfl dX9_backTo_25 ?_
      refine sn_getF hO fmX9_87 atM_0 dX9_backTo_26 ?_
      refine sn_iload_n hO 2 rfl dX9_backTo_29 ?_
      refine sn_aload_n hO 0 rfl dX9_backTo_30 ?_
      refine sn_getF hO fmX9_105 atM_0 dX9_backTo_31 ?_
      refine sn_bipush hO kb_6 dX9_backTo_34 ?_
      refine sn_iload_n hO 1 rfl dX9_backTo_36 ?_
      refine sn_imul hO dX9_backTo_37 ?_
      refine sn_iload_n hO 2 rfl dX9_backTo_38 ?_
      refine sn_iadd hO dX9_backTo_39 ?_
      refine sn_iald hO atM_22 rfl dX9_backTo_40 ?_
      refine sn_iast hO atM_16 rfl dX9_backTo_41 ?_
      refine sn_nmS (fun S11 => ?_)
      refine sn_iinc hO (lv' := [(2, .int (i7 + 1)), (0, .ref (w.2.2.1 0)), (1, .int p1)]) 2 rfl ki_1 (by decide) rfl dX9_backTo_42 ?_
      refine sn_goto hO 2 (by decide) dX9_backTo_45 ?_
      refine sn_sub [1, 2, 0] rfl ?_
      exact hrc9 _ _
theorem ctX9_backTo {w : sn_W} {p1 : Int32} {S : sn_S} {Q : sn_S → Prop} (h : wpX9_backTo p1 S Q) : sn_Ct LoM w yX9_backTo (ws_ yX9_backTo cX9_backTo 3 none) rmX9_backTo [.ref (w.2.2.1 0), .int p1] S (sn_qV Q) sn_noE := sn_Ct_of (LoM_X w) (by decide) (Nat.le_of_ble_eq_true rfl) RX9 rfl (fun C hO => wkX9_backTo hO p1 S Q h)
def rmX9_is : Room := { frames := 0, cells := 0, slots := 0, locals := 0 }
/-- SnailPostModel.is(II)Z -/
def wpX9_is (p1 : Int32) (p2 : Int32) (Q : Int32 → Prop) : Prop :=
  ((¬ ((p1 >>> (p2 &&& 31)) &&& 1) = 1 → Q 0) ∧ (((p1 >>> (p2 &&& 31)) &&& 1) = 1 → Q 1))
theorem wkX9_is {w : sn_W} {C : sn_C} (hO : sn_Ok LoM w C RX9 cX9_is 2 (some .boolean) [] "is") (p1 : Int32) (p2 : Int32) (S : sn_S) (Q : Int32 → Prop) : wpX9_is p1 p2 Q → sn_G LoM w rmX9_is (sn_qI (fun r S1 => S1 = S ∧ Q r)) sn_noE C 0 0 0 [(0, .int p1), (1, .int p2)] [] S := by
  unfold wpX9_is
  generalize hQq : (sn_qI (fun r S1 => S1 = S ∧ Q r)) = Qq
  refine sn_iload_n hO 0 rfl dX9_is_0 ?_
  refine sn_iload_n hO 1 rfl dX9_is_1 ?_
  refine sn_ishr hO dX9_is_2 ?_
  refine sn_iconst hO kc_1 dX9_is_3 ?_
  refine sn_iand hO dX9_is_4 ?_
  refine sn_iconst hO kc_1 dX9_is_5 ?_
  refine sn_icmp_ne hO 13 (by decide) dX9_is_6 ?_ ?_
  · refine sn_iconst hO kc_0 dX9_is_13 ?_
    subst hQq
    exact fun h => sn_zret hO (ty := .boolean) rfl rfl dX9_is_14 ⟨rfl, h⟩
  · refine sn_iconst hO kc_1 dX9_is_9 ?_
    refine sn_goto hO 14 (by decide) dX9_is_10 ?_
    subst hQq
    exact fun h => sn_zret hO (ty := .boolean) rfl rfl dX9_is_14 ⟨rfl, h⟩
theorem ctX9_is {w : sn_W} {p1 : Int32} {p2 : Int32} {S : sn_S} {Q : Int32 → Prop} (h : wpX9_is p1 p2 Q) : sn_Ct LoM w yX9_is (ws_ yX9_is cX9_is 2 (some .boolean)) rmX9_is [.int p1, .int p2] S (sn_qI (fun r S1 => S1 = S ∧ Q r)) sn_noE := sn_Ct_of (LoM_X w) (by decide) (Nat.le_of_ble_eq_true rfl) RX9 rfl (fun C hO => wkX9_is hO p1 p2 S Q h)
def rmX9_weigh : Room := { frames := 1, cells := 0, slots := 0, locals := 21 }
/-- SnailPostModel.weigh(I)V -/
def wpX9_weigh (p1 : Int32) (S : sn_S) (Q : sn_S → Prop) : Prop :=
  sn_jn (fun (v1 : Int32) (v2 : Int32) => sn_jn (fun (S4 : sn_S) => ((¬ v1 = (S4.1 0 44) → sn_lt (sn_pI S4 0 46 ((S4.1 0 46) + 0)) (fun S6 => Q S6)) ∧ (v1 = (S4.1 0 44) → ((¬ v2 = (S4.1 0 45) → sn_lt (sn_pI S4 0 46 ((S4.1 0 46) + 0)) (fun S7 => Q S7)) ∧ (v2 = (S4.1 0 45) → sn_lt (sn_pI S4 0 46 ((S4.1 0 46) + 1)) (fun S8 => Q S8)))))) (fun (k5 : sn_S → Prop) => sn_jn (κ := Prop) (sn_lt (sn_pI S 0 44 v1) (fun S10 => sn_lt (sn_pI S10 0 45 v2) (fun S11 => sn_lt (sn_pI S11 0 46 0) (fun S12 => sn_lp2 (fun (rc15 : Int32 → sn_S → Prop) (i13 : Int32) (S14 : sn_S) => ((5 ≤ i13 → k5 S14) ∧ (¬ 5 ≤ i13 → (vp_in i13 5 ∧ (vp_in i13 5 ∧ sn_lt (sn_pI S14 25 (i13).toNatClampNeg (S14.1 24 (i13).toNatClampNeg)) (fun S16 => rc15 (i13 + 1) S16)))))) 0 S12)))) (fun (k9 : Prop) => (((S.1 0 44) < v1 → k9) ∧ (¬ (S.1 0 44) < v1 → ((¬ v1 = (S.1 0 44) → k5 S) ∧ (v1 = (S.1 0 44) → (((S.1 0 45) ≤ v2 → k5 S) ∧ (¬ (S.1 0 45) ≤ v2 → k9))))))))) (fun (k3 : Int32 → Int32 → Prop) => sn_lp3 (fun (rc20 : Int32 → Int32 → Int32 → Prop) (i17 : Int32) (i18 : Int32) (i19 : Int32) => (vp_in 0 5680 ∧ (((S.1 2 (0 : Int32).toNatClampNeg) ≤ i19 → k3 i17 i18) ∧ (¬ (S.1 2 (0 : Int32).toNatClampNeg) ≤ i19 → wpX9_is p1 i19 (fun (r21 : Int32) => sn_jn (fun (v22 : Int32) => sn_jn (fun (v24 : Int32) => sn_lt (i17 + v24) (fun x26 => sn_jn (fun (v27 : Int32) => sn_lt (i18 + v27) (fun x29 => rc20 x26 x29 (i19 + 1))) (fun (k28 : Int32 → Prop) => ((v22 = 0 → k28 0) ∧ (¬ v22 = 0 → (vp_in i19 6 ∧ k28 (S.1 16 (i19).toNatClampNeg))))))) (fun (k25 : Int32 → Prop) => ((v22 = 0 → k25 0) ∧ (¬ v22 = 0 → k25 1)))) (fun (k23 : Int32 → Prop) => sn_jn (κ := Prop) (k23 0) (fun (k30 : Prop) => ((r21 = 0 → k30) ∧ (¬ r21 = 0 → (vp_in i19 6 ∧ (((S.1 16 (i19).toNatClampNeg) = (-1) → k30) ∧ (¬ (S.1 16 (i19).toNatClampNeg) = (-1) → k23 1)))))))))))) 0 0 0)
theorem wkX9_weigh {w : sn_W} {C : sn_C} (hO : sn_Ok LoM w C RX9 cX9_weigh 6 none [] "weigh") (p1 : Int32) (S : sn_S) (Q : sn_S → Prop) : wpX9_weigh p1 S Q → sn_G LoM w rmX9_weigh (sn_qV Q) sn_noE C 0 0 0 [(0, .ref (w.2.2.1 0)), (1, .int p1)] [] S := by
  unfold wpX9_weigh
  generalize hQq : (sn_qV Q) = Qq
  refine sn_iconst hO kc_0 dX9_weigh_0 ?_
  refine sn_istore_n hO (lv' := [(2, .int 0), (0, .ref (w.2.2.1 0)), (1, .int p1)]) (by decide) rfl dX9_weigh_1 ?_
  refine sn_iconst hO kc_0 dX9_weigh_2 ?_
  refine sn_istore_n hO (lv' := [(3, .int 0), (2, .int 0), (0, .ref (w.2.2.1 0)), (1, .int p1)]) (by decide) rfl dX9_weigh_3 ?_
  refine sn_iconst hO kc_0 dX9_weigh_4 ?_
  refine sn_istore hO (lv' := [(4, .int 0), (3, .int 0), (2, .int 0), (0, .ref (w.2.2.1 0)), (1, .int p1)]) (by decide) rfl dX9_weigh_5 ?_
  refine sn_jn_walk (fun (k : Int32 → Int32 → Prop) => ∀ (v1 : Int32) (v2 : Int32), k v1 v2 → sn_G LoM w rmX9_weigh Qq sn_noE C 0 0 83 [(0, .ref (w.2.2.1 0)), (2, .int v1), (3, .int v2)] [] S) ?_ ?_
  · intro v1 v2
    refine sn_iload_n hO 1 rfl dX9_weigh_83 ?_
    refine sn_aload_n hO 0 rfl dX9_weigh_84 ?_
    refine sn_getI hO fmX9_414 atM_0 dX9_weigh_85 ?_
    refine sn_jn_walk (fun (k : sn_S → Prop) => ∀ (S4 : sn_S), k S4 → sn_G LoM w rmX9_weigh Qq sn_noE C 0 0 151 [(0, .ref (w.2.2.1 0)), (2, .int v1), (3, .int v2)] [] S4) ?_ ?_
    · intro S4
      refine sn_aload_n hO 0 rfl dX9_weigh_151 ?_
      refine sn_dup hO rfl dX9_weigh_152 ?_
      refine sn_getI hO fmX9_420 atM_0 dX9_weigh_153 ?_
      refine sn_iload_n hO 1 rfl dX9_weigh_156 ?_
      refine sn_aload_n hO 0 rfl dX9_weigh_157 ?_
      refine sn_getI hO fmX9_414 atM_0 dX9_weigh_158 ?_
      refine sn_icmp_ne hO 176 (by decide) dX9_weigh_161 ?_ ?_
      · refine sn_iconst hO kc_0 dX9_weigh_176 ?_
        refine sn_iadd hO dX9_weigh_177 ?_
        refine sn_putI hO fmX9_420 atM_0 rfl rfl dX9_weigh_178 ?_
        refine sn_nmS (fun S6 => ?_)
        subst hQq
        exact sn_vret hO rfl dX9_weigh_181
      · refine sn_iload_n hO 2 rfl dX9_weigh_164 ?_
        refine sn_aload_n hO 0 rfl dX9_weigh_165 ?_
        refine sn_getI hO fmX9_417 atM_0 dX9_weigh_166 ?_
        refine sn_icmp_ne hO 176 (by decide) dX9_weigh_169 ?_ ?_
        · refine sn_iconst hO kc_0 dX9_weigh_176 ?_
          refine sn_iadd hO dX9_weigh_177 ?_
          refine sn_putI hO fmX9_420 atM_0 rfl rfl dX9_weigh_178 ?_
          refine sn_nmS (fun S7 => ?_)
          subst hQq
          exact sn_vret hO rfl dX9_weigh_181
        · refine sn_iconst hO kc_1 dX9_weigh_172 ?_
          refine sn_goto hO 177 (by decide) dX9_weigh_173 ?_
          refine sn_iadd hO dX9_weigh_177 ?_
          refine sn_putI hO fmX9_420 atM_0 rfl rfl dX9_weigh_178 ?_
          refine sn_nmS (fun S8 => ?_)
          subst hQq
          exact sn_vret hO rfl dX9_weigh_181
    · intro k5 hk5
      refine sn_jn_walk (fun (k : Prop) => k → sn_G LoM w rmX9_weigh Qq sn_noE C 0 0 107 [(0, .ref (w.2.2.1 0)), (2, .int v1), (3, .int v2)] [] S) ?_ ?_
      · refine sn_aload_n hO 0 rfl dX9_weigh_107 ?_
        refine sn_iload_n hO 1 rfl dX9_weigh_108 ?_
        refine sn_putI hO fmX9_414 atM_0 rfl rfl dX9_weigh_109 ?_
        refine sn_nmS (fun S10 => ?_)
        refine sn_aload_n hO 0 rfl dX9_weigh_112 ?_
        refine sn_iload_n hO 2 rfl dX9_weigh_113 ?_
        refine sn_putI hO fmX9_417 atM_0 rfl rfl dX9_weigh_114 ?_
        refine sn_nmS (fun S11 => ?_)
        refine sn_aload_n hO 0 rfl dX9_weigh_117 ?_
        refine sn_iconst hO kc_0 dX9_weigh_118 ?_
        refine sn_putI hO fmX9_420 atM_0 rfl rfl dX9_weigh_119 ?_
        refine sn_nmS (fun S12 => ?_)
        refine sn_iconst hO kc_0 dX9_weigh_122 ?_
        refine sn_istore hO (lv' := [(4, .int 0), (0, .ref (w.2.2.1 0)), (2, .int v1), (3, .int v2)]) (by decide) rfl dX9_weigh_123 ?_
        refine sn_sub [1, 2, 3, 0] rfl ?_
        refine sn_lp2_walk (Gd := fun (i13 : Int32) (S14 : sn_S) => sn_G LoM w rmX9_weigh Qq sn_noE C 0 0 125 [(0, .ref (w.2.2.1 0)), (2, .int v1), (3, .int v2), (4, .int i13)] [] S14) ?_ _ _
        intro rc15 hrc15 i13 S14
        refine sn_iload hO 3 rfl dX9_weigh_125 ?_
        refine sn_iconst hO kc_5 dX9_weigh_127 ?_
        refine sn_icmp_ge hO 151 (by decide) dX9_weigh_128 ?_ ?_
        · refine sn_sub [0, 1, 2] rfl ?_
          exact hk5 _
        · refine sn_aload_n hO 0 rfl dX9_weigh_131 ?_
          refine sn_getF hO fmX9_114 atM_0 dX9_weigh_132 ?_
          refine sn_iload hO 3 rfl dX9_weigh_135 ?_
          refine sn_aload_n hO 0 rfl dX9_weigh_137 ?_
          refine sn_getF hO fmX9_111 atM_0 dX9_weigh_138 ?_
          refine sn_iload hO 3 rfl dX9_weigh_141 ?_
          refine sn_iald hO atM_24 rfl dX9_weigh_143 ?_
          refine sn_iast hO atM_25 rfl dX9_weigh_144 ?_
          refine sn_nmS (fun S16 => ?_)
          refine sn_iinc hO (lv' := [(4, .int (i13 + 1)), (0, .ref (w.2.2.1 0)), (2, .int v1), (3, .int v2)]) 3 rfl ki_1 (by decide) rfl dX9_weigh_145 ?_
          refine sn_goto hO 125 (by decide) dX9_weigh_148 ?_
          refine sn_sub [1, 2, 3, 0] rfl ?_
          exact hrc15 _ _
      · intro k9 hk9
        refine sn_icmp_gt hO 107 (by decide) dX9_weigh_88 ?_ ?_
        · exact hk9
        · refine sn_iload_n hO 1 rfl dX9_weigh_91 ?_
          refine sn_aload_n hO 0 rfl dX9_weigh_92 ?_
          refine sn_getI hO fmX9_414 atM_0 dX9_weigh_93 ?_
          refine sn_icmp_ne hO 151 (by decide) dX9_weigh_96 ?_ ?_
          · exact hk5 _
          · refine sn_iload_n hO 2 rfl dX9_weigh_99 ?_
            refine sn_aload_n hO 0 rfl dX9_weigh_100 ?_
            refine sn_getI hO fmX9_417 atM_0 dX9_weigh_101 ?_
            refine sn_icmp_ge hO 151 (by decide) dX9_weigh_104 ?_ ?_
            · exact hk5 _
            · exact hk9
  · intro k3 hk3
    refine sn_sub [3, 4, 2, 1, 0] rfl ?_
    refine sn_lp3_walk (Gd := fun (i17 : Int32) (i18 : Int32) (i19 : Int32) => sn_G LoM w rmX9_weigh Qq sn_noE C 0 0 7 [(0, .ref (w.2.2.1 0)), (1, .int p1), (2, .int i17), (3, .int i18), (4, .int i19)] [] S) ?_ _ _ _
    intro rc20 hrc20 i17 i18 i19
    refine sn_iload hO 4 rfl dX9_weigh_7 ?_
    refine sn_aload_n hO 0 rfl dX9_weigh_9 ?_
    refine sn_getF hO fmX9_13 atM_0 dX9_weigh_10 ?_
    refine sn_iconst hO kc_0 dX9_weigh_13 ?_
    refine sn_iald hO atM_2 rfl dX9_weigh_14 ?_
    refine sn_icmp_ge hO 83 (by decide) dX9_weigh_15 ?_ ?_
    · refine sn_sub [0, 2, 3] rfl ?_
      exact hk3 _ _
    · refine sn_iload_n hO 1 rfl dX9_weigh_18 ?_
      refine sn_iload hO 4 rfl dX9_weigh_19 ?_
      refine sn_callS hO (c2 := 0) (s2 := 0) [.int p1, .int i19] csX9_435 ctX9_is ⟨Nat.le_of_ble_eq_true rfl, Nat.le_of_ble_eq_true rfl⟩ rfl rfl (Nat.le_of_ble_eq_true rfl) ⟨Nat.le_of_ble_eq_true rfl, Nat.le_of_ble_eq_true rfl, rfl, rfl⟩ dX9_weigh_21 (sn_bIp (fun r21 => ?_)) sn_x0
      refine sn_jn_walk (fun (k : Int32 → Prop) => ∀ (v22 : Int32), k v22 → sn_G LoM w rmX9_weigh Qq sn_noE C 0 0 43 [(0, .ref (w.2.2.1 0)), (1, .int p1), (2, .int i17), (3, .int i18), (4, .int i19)] [.int v22] S) ?_ ?_
      · intro v22
        refine sn_istore hO (lv' := [(5, .int v22), (0, .ref (w.2.2.1 0)), (1, .int p1), (2, .int i17), (3, .int i18), (4, .int i19)]) (by decide) rfl dX9_weigh_43 ?_
        refine sn_iload_n hO 3 rfl dX9_weigh_45 ?_
        refine sn_iload hO 0 rfl dX9_weigh_46 ?_
        refine sn_jn_walk (fun (k : Int32 → Prop) => ∀ (v24 : Int32), k v24 → sn_G LoM w rmX9_weigh Qq sn_noE C 0 0 56 [(0, .ref (w.2.2.1 0)), (1, .int p1), (3, .int i18), (4, .int i19), (5, .int v22)] [.int v24, .int i17] S) ?_ ?_
        · intro v24
          refine sn_iadd hO dX9_weigh_56 ?_
          refine sn_nmI (fun x26 => ?_)
          refine sn_istore_n hO (lv' := [(2, .int x26), (0, .ref (w.2.2.1 0)), (1, .int p1), (3, .int i18), (4, .int i19), (5, .int v22)]) (by decide) rfl dX9_weigh_57 ?_
          refine sn_iload_n hO 3 rfl dX9_weigh_58 ?_
          refine sn_iload hO 5 rfl dX9_weigh_59 ?_
          refine sn_jn_walk (fun (k : Int32 → Prop) => ∀ (v27 : Int32), k v27 → sn_G LoM w rmX9_weigh Qq sn_noE C 0 0 75 [(0, .ref (w.2.2.1 0)), (1, .int p1), (2, .int x26), (4, .int i19)] [.int v27, .int i18] S) ?_ ?_
          · intro v27
            refine sn_iadd hO dX9_weigh_75 ?_
            refine sn_nmI (fun x29 => ?_)
            refine sn_istore_n hO (lv' := [(3, .int x29), (0, .ref (w.2.2.1 0)), (1, .int p1), (2, .int x26), (4, .int i19)]) (by decide) rfl dX9_weigh_76 ?_
            refine sn_iinc hO (lv' := [(4, .int (i19 + 1)), (3, .int x29), (0, .ref (w.2.2.1 0)), (1, .int p1), (2, .int x26)]) 4 rfl ki_1 (by decide) rfl dX9_weigh_77 ?_
            refine sn_goto hO 7 (by decide) dX9_weigh_80 ?_
            refine sn_sub [2, 3, 4, 1, 0] rfl ?_
            exact hrc20 _ _ _
          · intro k28 hk28
            refine sn_if_eq hO 74 (by decide) dX9_weigh_61 ?_ ?_
            · refine sn_iconst hO kc_0 dX9_weigh_74 ?_
              refine sn_sub [1, 2, 0, 4] rfl ?_
              exact hk28 _
            · refine sn_aload_n hO 1 rfl dX9_weigh_64 ?_
              refine sn_getF hO fmX9_87 atM_0 dX9_weigh_65 ?_
              refine sn_iload hO 4 rfl dX9_weigh_68 ?_
              refine sn_iald hO atM_16 rfl dX9_weigh_70 ?_
              refine sn_goto hO 75 (by decide) dX9_weigh_71 ?_
              refine sn_sub [1, 2, 0, 4] rfl ?_
              exact hk28 _
        · intro k25 hk25
          refine sn_if_eq hO 55 (by decide) dX9_weigh_48 ?_ ?_
          · refine sn_iconst hO kc_0 dX9_weigh_55 ?_
            refine sn_sub [1, 2, 4, 5, 0] rfl ?_
            exact hk25 _
          · refine sn_iconst hO kc_1 dX9_weigh_51 ?_
            refine sn_goto hO 56 (by decide) dX9_weigh_52 ?_
            refine sn_sub [1, 2, 4, 5, 0] rfl ?_
            exact hk25 _
      · intro k23 hk23
        refine sn_jn_walk (fun (k : Prop) => k → sn_G LoM w rmX9_weigh Qq sn_noE C 0 0 42 [(0, .ref (w.2.2.1 0)), (1, .int p1), (2, .int i17), (3, .int i18), (4, .int i19)] [] S) ?_ ?_
        · refine sn_iconst hO kc_0 dX9_weigh_42 ?_
          exact hk23 _
        · intro k30 hk30
          refine sn_if_eq hO 42 (by decide) dX9_weigh_24 ?_ ?_
          · exact hk30
          · refine sn_aload_n hO 0 rfl dX9_weigh_27 ?_
            refine sn_getF hO fmX9_87 atM_0 dX9_weigh_28 ?_
            refine sn_iload hO 4 rfl dX9_weigh_31 ?_
            refine sn_iald hO atM_16 rfl dX9_weigh_33 ?_
            refine sn_iconst hO kc_m1 dX9_weigh_34 ?_
            refine sn_icmp_eq hO 42 (by decide) dX9_weigh_35 ?_ ?_
            · exact hk30
            · refine sn_iconst hO kc_1 dX9_weigh_38 ?_
              refine sn_goto hO 43 (by decide) dX9_weigh_39 ?_
              exact hk23 _
theorem ctX9_weigh {w : sn_W} {p1 : Int32} {S : sn_S} {Q : sn_S → Prop} (h : wpX9_weigh p1 S Q) : sn_Ct LoM w yX9_weigh (ws_ yX9_weigh cX9_weigh 6 none) rmX9_weigh [.ref (w.2.2.1 0), .int p1] S (sn_qV Q) sn_noE := sn_Ct_of (LoM_X w) (by decide) (Nat.le_of_ble_eq_true rfl) RX9 rfl (fun C hO => wkX9_weigh hO p1 S Q h)
def rmX9_nextPlan : Room := { frames := 0, cells := 0, slots := 0, locals := 0 }
/-- SnailPostModel.nextPlan(I)I -/
def wpX9_nextPlan (p1 : Int32) (S : sn_S) (Q : Int32 → sn_S → Prop) : Prop :=
  sn_lt (p1 - 1) (fun x1 => sn_jn (fun (v2 : Int32) (S3 : sn_S) => ((v2 < 0 → Q v2 S3) ∧ (¬ v2 < 0 → (vp_in v2 5 ∧ (vp_in v2 5 ∧ sn_lt (sn_pI S3 24 (v2).toNatClampNeg ((S3.1 24 (v2).toNatClampNeg) + 1)) (fun S5 => Q v2 S5)))))) (fun (k4 : Int32 → sn_S → Prop) => sn_lp2 (fun (rc8 : Int32 → sn_S → Prop) (i6 : Int32) (S7 : sn_S) => ((i6 < 0 → k4 i6 S7) ∧ (¬ i6 < 0 → (vp_in i6 5 ∧ (vp_in 1 5680 ∧ ((¬ (S7.1 24 (i6).toNatClampNeg) = ((S7.1 2 (1 : Int32).toNatClampNeg) - 1) → k4 i6 S7) ∧ ((S7.1 24 (i6).toNatClampNeg) = ((S7.1 2 (1 : Int32).toNatClampNeg) - 1) → (vp_in i6 5 ∧ sn_lt (sn_pI S7 24 (i6).toNatClampNeg (-1)) (fun S9 => rc8 (i6 + (-1)) S9))))))))) x1 S))
theorem wkX9_nextPlan {w : sn_W} {C : sn_C} (hO : sn_Ok LoM w C RX9 cX9_nextPlan 3 (some .int) [] "nextPlan") (p1 : Int32) (S : sn_S) (Q : Int32 → sn_S → Prop) : wpX9_nextPlan p1 S Q → sn_G LoM w rmX9_nextPlan (sn_qI Q) sn_noE C 0 0 0 [(0, .ref (w.2.2.1 0)), (1, .int p1)] [] S := by
  unfold wpX9_nextPlan
  generalize hQq : (sn_qI Q) = Qq
  refine sn_iload_n hO 1 rfl dX9_nextPlan_0 ?_
  refine sn_iconst hO kc_1 dX9_nextPlan_1 ?_
  refine sn_isub hO dX9_nextPlan_2 ?_
  refine sn_nmI (fun x1 => ?_)
  refine sn_istore_n hO (lv' := [(2, .int x1), (0, .ref (w.2.2.1 0)), (1, .int p1)]) (by decide) rfl dX9_nextPlan_3 ?_
  refine sn_jn_walk (fun (k : Int32 → sn_S → Prop) => ∀ (v2 : Int32) (S3 : sn_S), k v2 S3 → sn_G LoM w rmX9_nextPlan Qq sn_noE C 0 0 38 [(0, .ref (w.2.2.1 0)), (2, .int v2)] [] S3) ?_ ?_
  · intro v2 S3
    refine sn_iload_n hO 1 rfl dX9_nextPlan_38 ?_
    refine sn_if_lt hO 52 (by decide) dX9_nextPlan_39 ?_ ?_
    · refine sn_iload_n hO 1 rfl dX9_nextPlan_52 ?_
      subst hQq
      exact sn_iret hO rfl dX9_nextPlan_53
    · refine sn_aload_n hO 0 rfl dX9_nextPlan_42 ?_
      refine sn_getF hO fmX9_111 atM_0 dX9_nextPlan_43 ?_
      refine sn_iload_n hO 1 rfl dX9_nextPlan_46 ?_
      refine sn_dup2 hO rfl rfl dX9_nextPlan_47 ?_
      refine sn_iald hO atM_24 rfl dX9_nextPlan_48 ?_
      refine sn_iconst hO kc_1 dX9_nextPlan_49 ?_
      refine sn_iadd hO dX9_nextPlan_50 ?_
      refine sn_iast hO atM_24 rfl dX9_nextPlan_51 ?_
      refine sn_nmS (fun S5 => ?_)
      refine sn_iload_n hO 1 rfl dX9_nextPlan_52 ?_
      subst hQq
      exact sn_iret hO rfl dX9_nextPlan_53
  · intro k4 hk4
    refine sn_sub [1, 0] rfl ?_
    refine sn_lp2_walk (Gd := fun (i6 : Int32) (S7 : sn_S) => sn_G LoM w rmX9_nextPlan Qq sn_noE C 0 0 4 [(0, .ref (w.2.2.1 0)), (2, .int i6)] [] S7) ?_ _ _
    intro rc8 hrc8 i6 S7
    refine sn_iload_n hO 1 rfl dX9_nextPlan_4 ?_
    refine sn_if_lt hO 38 (by decide) dX9_nextPlan_5 ?_ ?_
    · exact hk4 _ _
    · refine sn_aload_n hO 0 rfl dX9_nextPlan_8 ?_
      refine sn_getF hO fmX9_111 atM_0 dX9_nextPlan_9 ?_
      refine sn_iload_n hO 1 rfl dX9_nextPlan_12 ?_
      refine sn_iald hO atM_24 rfl dX9_nextPlan_13 ?_
      refine sn_aload_n hO 0 rfl dX9_nextPlan_14 ?_
      refine sn_getF hO fmX9_13 atM_0 dX9_nextPlan_15 ?_
      refine sn_iconst hO kc_1 dX9_nextPlan_18 ?_
      refine sn_iald hO atM_2 rfl dX9_nextPlan_19 ?_
      refine sn_iconst hO kc_1 dX9_nextPlan_20 ?_
      refine sn_isub hO dX9_nextPlan_21 ?_
      refine sn_icmp_ne hO 38 (by decide) dX9_nextPlan_22 ?_ ?_
      · exact hk4 _ _
      · refine sn_aload_n hO 0 rfl dX9_nextPlan_25 ?_
        refine sn_getF hO fmX9_111 atM_0 dX9_nextPlan_26 ?_
        refine sn_iload_n hO 1 rfl dX9_nextPlan_29 ?_
        refine sn_iconst hO kc_m1 dX9_nextPlan_30 ?_
        refine sn_iast hO atM_24 rfl dX9_nextPlan_31 ?_
        refine sn_nmS (fun S9 => ?_)
        refine sn_iinc hO (lv' := [(2, .int (i6 + (-1))), (0, .ref (w.2.2.1 0))]) 1 rfl ki_m1 (by decide) rfl dX9_nextPlan_32 ?_
        refine sn_goto hO 4 (by decide) dX9_nextPlan_35 ?_
        refine sn_sub [1, 0] rfl ?_
        exact hrc8 _ _
theorem ctX9_nextPlan {w : sn_W} {p1 : Int32} {S : sn_S} {Q : Int32 → sn_S → Prop} (h : wpX9_nextPlan p1 S Q) : sn_Ct LoM w yX9_nextPlan (ws_ yX9_nextPlan cX9_nextPlan 3 (some .int)) rmX9_nextPlan [.ref (w.2.2.1 0), .int p1] S (sn_qI Q) sn_noE := sn_Ct_of (LoM_X w) (by decide) (Nat.le_of_ble_eq_true rfl) RX9 rfl (fun C hO => wkX9_nextPlan hO p1 S Q h)
def rmX9_findBest : Room := { frames := 7, cells := 0, slots := 0, locals := 186 }
/-- SnailPostModel.findBest(II)V -/
def wpX9_findBest (p1 : Int32) (p2 : Int32) (S : sn_S) (Q : sn_S → Prop) : Prop :=
  wpX9_dawn S (fun (S1 : sn_S) => sn_jn (fun (S2 : sn_S) => sn_lt (sn_pI S2 0 44 (-1)) (fun S4 => sn_lt (sn_pI S4 0 45 0) (fun S5 => sn_lt (sn_pI S5 0 46 0) (fun S6 => wpX9_keepGarden 0 S6 (fun (S7 : sn_S) => sn_lp2 (fun (rc10 : Int32 → sn_S → Prop) (i8 : Int32) (S9 : sn_S) => ((i8 = (-1) → Q S9) ∧ (¬ i8 = (-1) → wpX9_backTo i8 S9 (fun (S11 : sn_S) => sn_jn (fun (S12 : sn_S) => wpX9_weigh p2 S12 (fun (S14 : sn_S) => wpX9_nextPlan p1 S14 (fun (r15 : Int32) (S16 : sn_S) => rc10 r15 S16))) (fun (k13 : sn_S → Prop) => sn_lp2 (fun (rc19 : Int32 → sn_S → Prop) (i17 : Int32) (S18 : sn_S) => ((p1 ≤ i17 → k13 S18) ∧ (¬ p1 ≤ i17 → (vp_in i17 5 ∧ wpX9_runHour i17 (S18.1 24 (i17).toNatClampNeg) S18 (fun (S20 : sn_S) => wpX9_keepGarden (i17 + 1) S20 (fun (S21 : sn_S) => rc19 (i17 + 1) S21)))))) i8 S11))))) 0 S7))))) (fun (k3 : sn_S → Prop) => sn_lp2 (fun (rc24 : Int32 → sn_S → Prop) (i22 : Int32) (S23 : sn_S) => ((5 ≤ i22 → k3 S23) ∧ (¬ 5 ≤ i22 → (vp_in i22 5 ∧ sn_lt (sn_pI S23 24 (i22).toNatClampNeg (-1)) (fun S25 => (vp_in i22 5 ∧ sn_lt (sn_pI S25 25 (i22).toNatClampNeg (-1)) (fun S26 => rc24 (i22 + 1) S26))))))) 0 S1))
theorem wkX9_findBest {w : sn_W} {C : sn_C} (hO : sn_Ok LoM w C RX9 cX9_findBest 5 none [] "findBest") (p1 : Int32) (p2 : Int32) (S : sn_S) (Q : sn_S → Prop) : wpX9_findBest p1 p2 S Q → sn_G LoM w rmX9_findBest (sn_qV Q) sn_noE C 0 0 0 [(0, .ref (w.2.2.1 0)), (1, .int p1), (2, .int p2)] [] S := by
  unfold wpX9_findBest
  generalize hQq : (sn_qV Q) = Qq
  refine sn_aload_n hO 0 rfl dX9_findBest_0 ?_
  refine sn_callV hO (c2 := 0) (s2 := 0) [] cvX9_401 (fun _ => sn_Rv_K atM_0) ctX9_dawn ⟨Nat.le_of_ble_eq_true rfl, Nat.le_of_ble_eq_true rfl⟩ rfl rfl (Nat.le_of_ble_eq_true rfl) ⟨Nat.le_of_ble_eq_true rfl, Nat.le_of_ble_eq_true rfl, rfl, rfl⟩ dX9_findBest_1 (sn_bV (fun S1 => ?_)) sn_x0
  refine sn_iconst hO kc_0 dX9_findBest_4 ?_
  refine sn_istore_n hO (lv' := [(3, .int 0), (0, .ref (w.2.2.1 0)), (1, .int p1), (2, .int p2)]) (by decide) rfl dX9_findBest_5 ?_
  refine sn_jn_walk (fun (k : sn_S → Prop) => ∀ (S2 : sn_S), k S2 → sn_G LoM w rmX9_findBest Qq sn_noE C 0 0 31 [(0, .ref (w.2.2.1 0)), (1, .int p1), (2, .int p2)] [] S2) ?_ ?_
  · intro S2
    refine sn_aload_n hO 0 rfl dX9_findBest_31 ?_
    refine sn_iconst hO kc_m1 dX9_findBest_32 ?_
    refine sn_putI hO fmX9_414 atM_0 rfl rfl dX9_findBest_33 ?_
    refine sn_nmS (fun S4 => ?_)
    refine sn_aload_n hO 0 rfl dX9_findBest_36 ?_
    refine sn_iconst hO kc_0 dX9_findBest_37 ?_
    refine sn_putI hO fmX9_417 atM_0 rfl rfl dX9_findBest_38 ?_
    refine sn_nmS (fun S5 => ?_)
    refine sn_aload_n hO 0 rfl dX9_findBest_41 ?_
    refine sn_iconst hO kc_0 dX9_findBest_42 ?_
    refine sn_putI hO fmX9_420 atM_0 rfl rfl dX9_findBest_43 ?_
    refine sn_nmS (fun S6 => ?_)
    refine sn_iconst hO kc_0 dX9_findBest_46 ?_
    refine sn_istore_n hO (lv' := [(3, .int 0), (0, .ref (w.2.2.1 0)), (1, .int p1), (2, .int p2)]) (by decide) rfl dX9_findBest_47 ?_
    refine sn_aload_n hO 1 rfl dX9_findBest_48 ?_
    refine sn_iconst hO kc_0 dX9_findBest_49 ?_
    refine sn_callV hO (c2 := 0) (s2 := 0) [.int 0] cvX9_423 (fun _ => sn_Rv_K atM_0) ctX9_keepGarden ⟨Nat.le_of_ble_eq_true rfl, Nat.le_of_ble_eq_true rfl⟩ rfl rfl (Nat.le_of_ble_eq_true rfl) ⟨Nat.le_of_ble_eq_true rfl, Nat.le_of_ble_eq_true rfl, rfl, rfl⟩ dX9_findBest_50 (sn_bV (fun S7 => ?_)) sn_x0
    refine sn_sub [1, 2, 3, 0] rfl ?_
    refine sn_lp2_walk (Gd := fun (i8 : Int32) (S9 : sn_S) => sn_G LoM w rmX9_findBest Qq sn_noE C 0 0 53 [(0, .ref (w.2.2.1 0)), (1, .int p1), (2, .int p2), (3, .int i8)] [] S9) ?_ _ _
    intro rc10 hrc10 i8 S9
    refine sn_iload_n hO 3 rfl dX9_findBest_53 ?_
    refine sn_iconst hO kc_m1 dX9_findBest_54 ?_
    refine sn_icmp_eq hO 113 (by decide) dX9_findBest_55 ?_ ?_
    · subst hQq
      exact sn_vret hO rfl dX9_findBest_113
    · refine sn_aload_n hO 0 rfl dX9_findBest_58 ?_
      refine sn_iload_n hO 3 rfl dX9_findBest_59 ?_
      refine sn_callV hO (c2 := 0) (s2 := 0) [.int i8] cvX9_426 (fun _ => sn_Rv_K atM_0) ctX9_backTo ⟨Nat.le_of_ble_eq_true rfl, Nat.le_of_ble_eq_true rfl⟩ rfl rfl (Nat.le_of_ble_eq_true rfl) ⟨Nat.le_of_ble_eq_true rfl, Nat.le_of_ble_eq_true rfl, rfl, rfl⟩ dX9_findBest_60 (sn_bV (fun S11 => ?_)) sn_x0
      refine sn_iload_n hO 3 rfl dX9_findBest_63 ?_
      refine sn_istore hO (lv' := [(4, .int i8), (0, .ref (w.2.2.1 0)), (1, .int p1), (2, .int p2), (3, .int i8)]) (by decide) rfl dX9_findBest_64 ?_
      refine sn_jn_walk (fun (k : sn_S → Prop) => ∀ (S12 : sn_S), k S12 → sn_G LoM w rmX9_findBest Qq sn_noE C 0 0 99 [(0, .ref (w.2.2.1 0)), (1, .int p1), (2, .int p2)] [] S12) ?_ ?_
      · intro S12
        refine sn_aload_n hO 0 rfl dX9_findBest_99 ?_
        refine sn_iload_n hO 2 rfl dX9_findBest_100 ?_
        refine sn_callV hO (c2 := 0) (s2 := 0) [.int p2] cvX9_429 (fun _ => sn_Rv_K atM_0) ctX9_weigh ⟨Nat.le_of_ble_eq_true rfl, Nat.le_of_ble_eq_true rfl⟩ rfl rfl (Nat.le_of_ble_eq_true rfl) ⟨Nat.le_of_ble_eq_true rfl, Nat.le_of_ble_eq_true rfl, rfl, rfl⟩ dX9_findBest_101 (sn_bV (fun S14 => ?_)) sn_x0
        refine sn_aload_n hO 0 rfl dX9_findBest_104 ?_
        refine sn_iload_n hO 1 rfl dX9_findBest_105 ?_
        refine sn_callV hO (c2 := 0) (s2 := 0) [.int p1] cvX9_432 (fun _ => sn_Rv_K atM_0) ctX9_nextPlan ⟨Nat.le_of_ble_eq_true rfl, Nat.le_of_ble_eq_true rfl⟩ rfl rfl (Nat.le_of_ble_eq_true rfl) ⟨Nat.le_of_ble_eq_true rfl, Nat.le_of_ble_eq_true rfl, rfl, rfl⟩ dX9_findBest_106 (sn_bI (fun r15 S16 => ?_)) sn_x0
        refine sn_istore_n hO (lv' := [(3, .int r15), (0, .ref (w.2.2.1 0)), (1, .int p1), (2, .int p2)]) (by decide) rfl dX9_findBest_109 ?_
        refine sn_goto hO 53 (by decide) dX9_findBest_110 ?_
        refine sn_sub [1, 2, 3, 0] rfl ?_
        exact hrc10 _ _
      · intro k13 hk13
        refine sn_sub [1, 2, 3, 0] rfl ?_
        refine sn_lp2_walk (Gd := fun (i17 : Int32) (S18 : sn_S) => sn_G LoM w rmX9_findBest Qq sn_noE C 0 0 66 [(0, .ref (w.2.2.1 0)), (1, .int p1), (2, .int p2), (4, .int i17)] [] S18) ?_ _ _
        intro rc19 hrc19 i17 S18
        refine sn_iload hO 3 rfl dX9_findBest_66 ?_
        refine sn_iload_n hO 1 rfl dX9_findBest_68 ?_
        refine sn_icmp_ge hO 99 (by decide) dX9_findBest_69 ?_ ?_
        · refine sn_sub [0, 1, 2] rfl ?_
          exact hk13 _
        · refine sn_aload_n hO 0 rfl dX9_findBest_72 ?_
          refine sn_iload hO 3 rfl dX9_findBest_73 ?_
          refine sn_aload_n hO 0 rfl dX9_findBest_75 ?_
          refine sn_getF hO fmX9_111 atM_0 dX9_findBest_76 ?_
          refine sn_iload hO 3 rfl dX9_findBest_79 ?_
          refine sn_iald hO atM_24 rfl dX9_findBest_81 ?_
          refine sn_callV hO (c2 := 0) (s2 := 0) [.int i17, .int (S18.1 24 (i17).toNatClampNeg)] cvX9_404 (fun _ => sn_Rv_K atM_0) ctX9_runHour ⟨Nat.le_of_ble_eq_true rfl, Nat.le_of_ble_eq_true rfl⟩ rfl rfl (Nat.le_of_ble_eq_true rfl) ⟨Nat.le_of_ble_eq_true rfl, Nat.le_of_ble_eq_true rfl, rfl, rfl⟩ dX9_findBest_82 (sn_bV (fun S20 => ?_)) sn_x0
          refine sn_aload_n hO 0 rfl dX9_findBest_85 ?_
          refine sn_iload hO 3 rfl dX9_findBest_86 ?_
          refine sn_iconst hO kc_1 dX9_findBest_88 ?_
          refine sn_iadd hO dX9_findBest_89 ?_
          refine sn_callV hO (c2 := 0) (s2 := 0) [.int (i17 + 1)] cvX9_423 (fun _ => sn_Rv_K atM_0) ctX9_keepGarden ⟨Nat.le_of_ble_eq_true rfl, Nat.le_of_ble_eq_true rfl⟩ rfl rfl (Nat.le_of_ble_eq_true rfl) ⟨Nat.le_of_ble_eq_true rfl, Nat.le_of_ble_eq_true rfl, rfl, rfl⟩ dX9_findBest_90 (sn_bV (fun S21 => ?_)) sn_x0
          refine sn_iinc hO (lv' := [(4, .int (i17 + 1)), (0, .ref (w.2.2.1 0)), (1, .int p1), (2, .int p2)]) 3 rfl ki_1 (by decide) rfl dX9_findBest_93 ?_
          refine sn_goto hO 66 (by decide) dX9_findBest_96 ?_
          refine sn_sub [1, 2, 3, 0] rfl ?_
          exact hrc19 _ _
  · intro k3 hk3
    refine sn_sub [1, 2, 3, 0] rfl ?_
    refine sn_lp2_walk (Gd := fun (i22 : Int32) (S23 : sn_S) => sn_G LoM w rmX9_findBest Qq sn_noE C 0 0 6 [(0, .ref (w.2.2.1 0)), (1, .int p1), (2, .int p2), (3, .int i22)] [] S23) ?_ _ _
    intro rc24 hrc24 i22 S23
    refine sn_iload_n hO 3 rfl dX9_findBest_6 ?_
    refine sn_iconst hO kc_5 dX9_findBest_7 ?_
    refine sn_icmp_ge hO 31 (by decide) dX9_findBest_8 ?_ ?_
    · refine sn_sub [0, 1, 2] rfl ?_
      exact hk3 _
    · refine sn_aload_n hO 0 rfl dX9_findBest_11 ?_
      refine sn_getF hO fmX9_111 atM_0 dX9_findBest_12 ?_
      refine sn_iload_n hO 3 rfl dX9_findBest_15 ?_
      refine sn_iconst hO kc_m1 dX9_findBest_16 ?_
      refine sn_iast hO atM_24 rfl dX9_findBest_17 ?_
      refine sn_nmS (fun S25 => ?_)
      refine sn_aload_n hO 0 rfl dX9_findBest_18 ?_
      refine sn_getF hO fmX9_114 atM_0 dX9_findBest_19 ?_
      refine sn_iload_n hO 3 rfl dX9_findBest_22 ?_
      refine sn_iconst hO kc_m1 dX9_findBest_23 ?_
      refine sn_iast hO atM_25 rfl dX9_findBest_24 ?_
      refine sn_nmS (fun S26 => ?_)
      refine sn_iinc hO (lv' := [(3, .int (i22 + 1)), (0, .ref (w.2.2.1 0)), (1, .int p1), (2, .int p2)]) 3 rfl ki_1 (by decide) rfl dX9_findBest_25 ?_
      refine sn_goto hO 6 (by decide) dX9_findBest_28 ?_
      refine sn_sub [1, 2, 3, 0] rfl ?_
      exact hrc24 _ _
theorem ctX9_findBest {w : sn_W} {p1 : Int32} {p2 : Int32} {S : sn_S} {Q : sn_S → Prop} (h : wpX9_findBest p1 p2 S Q) : sn_Ct LoM w yX9_findBest (ws_ yX9_findBest cX9_findBest 5 none) rmX9_findBest [.ref (w.2.2.1 0), .int p1, .int p2] S (sn_qV Q) sn_noE := sn_Ct_of (LoM_X w) (by decide) (Nat.le_of_ble_eq_true rfl) RX9 rfl (fun C hO => wkX9_findBest hO p1 p2 S Q h)
def rmX9_best : Room := { frames := 8, cells := 0, slots := 0, locals := 210 }
/-- SnailPostModel.best(III)I -/
def wpX9_best (p1 : Int32) (p2 : Int32) (p3 : Int32) (S : sn_S) (Q : Int32 → sn_S → Prop) : Prop :=
  sn_lt (sn_pI S 0 0 0) (fun S1 => wpX9_arePlanned p1 p2 S1 (fun (r2 : Int32) => ((r2 = 0 → Q (-1) S1) ∧ (¬ r2 = 0 → wpX9_in (Int32.toInt64 p3) 0 7 (fun (r3 : Int32) => ((¬ r3 = 0 → wpX9_findBest p1 p2 S1 (fun (S4 : sn_S) => ((¬ p3 = 0 → ((¬ p3 = 1 → ((¬ p3 = 2 → (vp_in (p3 - 3) 5 ∧ Q (S4.1 25 ((p3 - 3)).toNatClampNeg) S4)) ∧ (p3 = 2 → Q (S4.1 0 46) S4))) ∧ (p3 = 1 → Q (S4.1 0 45) S4))) ∧ (p3 = 0 → Q (S4.1 0 44) S4)))) ∧ (r3 = 0 → Q (-1) S1)))))))
theorem wkX9_best {w : sn_W} {C : sn_C} (hO : sn_Ok LoM w C RX9 cX9_best 4 (some .int) [] "best") (p1 : Int32) (p2 : Int32) (p3 : Int32) (S : sn_S) (Q : Int32 → sn_S → Prop) : wpX9_best p1 p2 p3 S Q → sn_G LoM w rmX9_best (sn_qI Q) sn_noE C 0 0 0 [(0, .ref (w.2.2.1 0)), (1, .int p1), (2, .int p2), (3, .int p3)] [] S := by
  unfold wpX9_best
  generalize hQq : (sn_qI Q) = Qq
  refine sn_aload_n hO 0 rfl dX9_best_0 ?_
  refine sn_iconst hO kc_0 dX9_best_1 ?_
  refine sn_putI hO fmX9_150 atM_0 rfl rfl dX9_best_2 ?_
  refine sn_nmS (fun S1 => ?_)
  refine sn_aload_n hO 0 rfl dX9_best_5 ?_
  refine sn_iload_n hO 1 rfl dX9_best_6 ?_
  refine sn_iload_n hO 2 rfl dX9_best_7 ?_
  refine sn_callV hO (c2 := 0) (s2 := 0) [.int p1, .int p2] cvX9_438 (fun _ => sn_Rv_K atM_0) ctX9_arePlanned ⟨Nat.le_of_ble_eq_true rfl, Nat.le_of_ble_eq_true rfl⟩ rfl rfl (Nat.le_of_ble_eq_true rfl) ⟨Nat.le_of_ble_eq_true rfl, Nat.le_of_ble_eq_true rfl, rfl, rfl⟩ dX9_best_8 (sn_bIp (fun r2 => ?_)) sn_x0
  refine sn_if_eq hO 26 (by decide) dX9_best_11 ?_ ?_
  · refine sn_iconst hO kc_m1 dX9_best_26 ?_
    subst hQq
    exact sn_iret hO rfl dX9_best_27
  · refine sn_iload_n hO 3 rfl dX9_best_14 ?_
    refine sn_i2l hO dX9_best_15 ?_
    refine sn_lconst hO (v := 0) rfl dX9_best_16 ?_
    refine sn_ldc2 hO q1907 dX9_best_17 ?_
    refine sn_callS hO (c2 := 0) (s2 := 0) [.long (Int32.toInt64 p3), .long 0, .long 7] csX9_160 ctX9_in ⟨Nat.le_of_ble_eq_true rfl, Nat.le_of_ble_eq_true rfl⟩ rfl rfl (Nat.le_of_ble_eq_true rfl) ⟨Nat.le_of_ble_eq_true rfl, Nat.le_of_ble_eq_true rfl, rfl, rfl⟩ dX9_best_20 (sn_bIp (fun r3 => ?_)) sn_x0
    refine sn_if_ne hO 28 (by decide) dX9_best_23 ?_ ?_
    · refine sn_aload_n hO 0 rfl dX9_best_28 ?_
      refine sn_iload_n hO 1 rfl dX9_best_29 ?_
      refine sn_iload_n hO 2 rfl dX9_best_30 ?_
      refine sn_callV hO (c2 := 0) (s2 := 0) [.int p1, .int p2] cvX9_441 (fun _ => sn_Rv_K atM_0) ctX9_findBest ⟨Nat.le_of_ble_eq_true rfl, Nat.le_of_ble_eq_true rfl⟩ rfl rfl (Nat.le_of_ble_eq_true rfl) ⟨Nat.le_of_ble_eq_true rfl, Nat.le_of_ble_eq_true rfl, rfl, rfl⟩ dX9_best_31 (sn_bV (fun S4 => ?_)) sn_x0
      refine sn_iload_n hO 3 rfl dX9_best_34 ?_
      refine sn_if_ne hO 45 (by decide) dX9_best_35 ?_ ?_
      · refine sn_iload_n hO 3 rfl dX9_best_45 ?_
        refine sn_iconst hO kc_1 dX9_best_46 ?_
        refine sn_icmp_ne hO 57 (by decide) dX9_best_47 ?_ ?_
        · refine sn_iload_n hO 3 rfl dX9_best_57 ?_
          refine sn_iconst hO kc_2 dX9_best_58 ?_
          refine sn_icmp_ne hO 69 (by decide) dX9_best_59 ?_ ?_
          · refine sn_aload_n hO 0 rfl dX9_best_69 ?_
            refine sn_getF hO fmX9_114 atM_0 dX9_best_70 ?_
            refine sn_iload_n hO 3 rfl dX9_best_73 ?_
            refine sn_iconst hO kc_3 dX9_best_74 ?_
            refine sn_isub hO dX9_best_75 ?_
            refine sn_iald hO atM_25 rfl dX9_best_76 ?_
            subst hQq
            exact sn_iret hO rfl dX9_best_77
          · refine sn_aload_n hO 0 rfl dX9_best_62 ?_
            refine sn_getI hO fmX9_420 atM_0 dX9_best_63 ?_
            refine sn_goto hO 77 (by decide) dX9_best_66 ?_
            subst hQq
            exact sn_iret hO rfl dX9_best_77
        · refine sn_aload_n hO 0 rfl dX9_best_50 ?_
          refine sn_getI hO fmX9_417 atM_0 dX9_best_51 ?_
          refine sn_goto hO 77 (by decide) dX9_best_54 ?_
          subst hQq
          exact sn_iret hO rfl dX9_best_77
      · refine sn_aload_n hO 0 rfl dX9_best_38 ?_
        refine sn_getI hO fmX9_414 atM_0 dX9_best_39 ?_
        refine sn_goto hO 77 (by decide) dX9_best_42 ?_
        subst hQq
        exact sn_iret hO rfl dX9_best_77
    · refine sn_iconst hO kc_m1 dX9_best_26 ?_
      subst hQq
      exact sn_iret hO rfl dX9_best_27
theorem ctX9_best {w : sn_W} {p1 : Int32} {p2 : Int32} {p3 : Int32} {S : sn_S} {Q : Int32 → sn_S → Prop} (h : wpX9_best p1 p2 p3 S Q) : sn_Ct LoM w yX9_best (ws_ yX9_best cX9_best 4 (some .int)) rmX9_best [.ref (w.2.2.1 0), .int p1, .int p2, .int p3] S (sn_qI Q) sn_noE := sn_Ct_of (LoM_X w) (by decide) (Nat.le_of_ble_eq_true rfl) RX9 rfl (fun C hO => wkX9_best hO p1 p2 p3 S Q h)
def rmX9_light : Room := { frames := 8, cells := 0, slots := 0, locals := 210 }
/-- SnailPostModel.light(II)I -/
def wpX9_light (p1 : Int32) (p2 : Int32) (S : sn_S) (Q : Int32 → sn_S → Prop) : Prop :=
  sn_lt (sn_pI S 0 0 0) (fun S1 => wpX9_arePlanned p1 p2 S1 (fun (r2 : Int32) => ((¬ r2 = 0 → wpX9_findBest p1 p2 S1 (fun (S3 : sn_S) => sn_jn (fun (S4 : sn_S) => wpX9_tell (S4.1 0 44) S4 (fun (r6 : Int32) (S7 : sn_S) => Q r6 S7)) (fun (k5 : sn_S → Prop) => sn_lp2 (fun (rc10 : Int32 → sn_S → Prop) (i8 : Int32) (S9 : sn_S) => ((5 ≤ i8 → k5 S9) ∧ (¬ 5 ≤ i8 → (vp_in i8 5 ∧ (vp_in (7 + i8) 5680 ∧ sn_lt (sn_pI S9 2 ((7 + i8)).toNatClampNeg (S9.1 25 (i8).toNatClampNeg)) (fun S11 => rc10 (i8 + 1) S11)))))) 0 S3))) ∧ (r2 = 0 → wpX9_tell (-1) S1 (fun (r12 : Int32) (S13 : sn_S) => Q r12 S13)))))
theorem wkX9_light {w : sn_W} {C : sn_C} (hO : sn_Ok LoM w C RX9 cX9_light 4 (some .int) [] "light") (p1 : Int32) (p2 : Int32) (S : sn_S) (Q : Int32 → sn_S → Prop) : wpX9_light p1 p2 S Q → sn_G LoM w rmX9_light (sn_qI Q) sn_noE C 0 0 0 [(0, .ref (w.2.2.1 0)), (1, .int p1), (2, .int p2)] [] S := by
  unfold wpX9_light
  generalize hQq : (sn_qI Q) = Qq
  refine sn_aload_n hO 0 rfl dX9_light_0 ?_
  refine sn_iconst hO kc_0 dX9_light_1 ?_
  refine sn_putI hO fmX9_150 atM_0 rfl rfl dX9_light_2 ?_
  refine sn_nmS (fun S1 => ?_)
  refine sn_aload_n hO 0 rfl dX9_light_5 ?_
  refine sn_iload_n hO 1 rfl dX9_light_6 ?_
  refine sn_iload_n hO 2 rfl dX9_light_7 ?_
  refine sn_callV hO (c2 := 0) (s2 := 0) [.int p1, .int p2] cvX9_438 (fun _ => sn_Rv_K atM_0) ctX9_arePlanned ⟨Nat.le_of_ble_eq_true rfl, Nat.le_of_ble_eq_true rfl⟩ rfl rfl (Nat.le_of_ble_eq_true rfl) ⟨Nat.le_of_ble_eq_true rfl, Nat.le_of_ble_eq_true rfl, rfl, rfl⟩ dX9_light_8 (sn_bIp (fun r2 => ?_)) sn_x0
  refine sn_if_ne hO 20 (by decide) dX9_light_11 ?_ ?_
  · refine sn_aload_n hO 0 rfl dX9_light_20 ?_
    refine sn_iload_n hO 1 rfl dX9_light_21 ?_
    refine sn_iload_n hO 2 rfl dX9_light_22 ?_
    refine sn_callV hO (c2 := 0) (s2 := 0) [.int p1, .int p2] cvX9_441 (fun _ => sn_Rv_K atM_0) ctX9_findBest ⟨Nat.le_of_ble_eq_true rfl, Nat.le_of_ble_eq_true rfl⟩ rfl rfl (Nat.le_of_ble_eq_true rfl) ⟨Nat.le_of_ble_eq_true rfl, Nat.le_of_ble_eq_true rfl, rfl, rfl⟩ dX9_light_23 (sn_bV (fun S3 => ?_)) sn_x0
    refine sn_iconst hO kc_0 dX9_light_26 ?_
    refine sn_istore_n hO (lv' := [(3, .int 0), (0, .ref (w.2.2.1 0)), (1, .int p1), (2, .int p2)]) (by decide) rfl dX9_light_27 ?_
    refine sn_jn_walk (fun (k : sn_S → Prop) => ∀ (S4 : sn_S), k S4 → sn_G LoM w rmX9_light Qq sn_noE C 0 0 54 [(0, .ref (w.2.2.1 0))] [] S4) ?_ ?_
    · intro S4
      refine sn_aload_n hO 0 rfl dX9_light_54 ?_
      refine sn_aload_n hO 0 rfl dX9_light_55 ?_
      refine sn_getI hO fmX9_414 atM_0 dX9_light_56 ?_
      refine sn_callV hO (c2 := 0) (s2 := 0) [.int (S4.1 0 44)] cvX9_164 (fun _ => sn_Rv_K atM_0) ctX9_tell ⟨Nat.le_of_ble_eq_true rfl, Nat.le_of_ble_eq_true rfl⟩ rfl rfl (Nat.le_of_ble_eq_true rfl) ⟨Nat.le_of_ble_eq_true rfl, Nat.le_of_ble_eq_true rfl, rfl, rfl⟩ dX9_light_59 (sn_bI (fun r6 S7 => ?_)) sn_x0
      subst hQq
      exact sn_iret hO rfl dX9_light_62
    · intro k5 hk5
      refine sn_sub [1, 0] rfl ?_
      refine sn_lp2_walk (Gd := fun (i8 : Int32) (S9 : sn_S) => sn_G LoM w rmX9_light Qq sn_noE C 0 0 28 [(0, .ref (w.2.2.1 0)), (3, .int i8)] [] S9) ?_ _ _
      intro rc10 hrc10 i8 S9
      refine sn_iload_n hO 1 rfl dX9_light_28 ?_
      refine sn_iconst hO kc_5 dX9_light_29 ?_
      refine sn_icmp_ge hO 54 (by decide) dX9_light_30 ?_ ?_
      · refine sn_sub [0] rfl ?_
        exact hk5 _
      · refine sn_aload_n hO 0 rfl dX9_light_33 ?_
        refine sn_getF hO fmX9_13 atM_0 dX9_light_34 ?_
        refine sn_bipush hO kb_7 dX9_light_37 ?_
        refine sn_iload_n hO 1 rfl dX9_light_39 ?_
        refine sn_iadd hO dX9_light_40 ?_
        refine sn_aload_n hO 0 rfl dX9_light_41 ?_
        refine sn_getF hO fmX9_114 atM_0 dX9_light_42 ?_
        refine sn_iload_n hO 1 rfl dX9_light_45 ?_
        refine sn_iald hO atM_25 rfl dX9_light_46 ?_
        refine sn_iast hO atM_2 rfl dX9_light_47 ?_
        refine sn_nmS (fun S11 => ?_)
        refine sn_iinc hO (lv' := [(3, .int (i8 + 1)), (0, .ref (w.2.2.1 0))]) 1 rfl ki_1 (by decide) rfl dX9_light_48 ?_
        refine sn_goto hO 28 (by decide) dX9_light_51 ?_
        refine sn_sub [1, 0] rfl ?_
        exact hrc10 _ _
  · refine sn_aload_n hO 0 rfl dX9_light_14 ?_
    refine sn_iconst hO kc_m1 dX9_light_15 ?_
    refine sn_callV hO (c2 := 0) (s2 := 0) [.int (-1)] cvX9_164 (fun _ => sn_Rv_K atM_0) ctX9_tell ⟨Nat.le_of_ble_eq_true rfl, Nat.le_of_ble_eq_true rfl⟩ rfl rfl (Nat.le_of_ble_eq_true rfl) ⟨Nat.le_of_ble_eq_true rfl, Nat.le_of_ble_eq_true rfl, rfl, rfl⟩ dX9_light_16 (sn_bI (fun r12 S13 => ?_)) sn_x0
    subst hQq
    exact sn_iret hO rfl dX9_light_19
theorem ctX9_light {w : sn_W} {p1 : Int32} {p2 : Int32} {S : sn_S} {Q : Int32 → sn_S → Prop} (h : wpX9_light p1 p2 S Q) : sn_Ct LoM w yX9_light (ws_ yX9_light cX9_light 4 (some .int)) rmX9_light [.ref (w.2.2.1 0), .int p1, .int p2] S (sn_qI Q) sn_noE := sn_Ct_of (LoM_X w) (by decide) (Nat.le_of_ble_eq_true rfl) RX9 rfl (fun C hO => wkX9_light hO p1 p2 S Q h)
def rmX9_settleDuel : Room := { frames := 0, cells := 0, slots := 0, locals := 0 }
/-- SnailPostModel.settleDuel(III)V -/
def wpX9_settleDuel (p1 : Int32) (p2 : Int32) (p3 : Int32) (S : sn_S) (Q : sn_S → Prop) : Prop :=
  sn_lt (p1 - 1) (fun x1 => sn_lp3 (fun (rc5 : Int32 → Int32 → sn_S → Prop) (i2 : Int32) (i3 : Int32) (S4 : sn_S) => ((i3 < p2 → Q S4) ∧ (¬ i3 < p2 → sn_jn (fun (v6 : Int32) => (vp_in i3 6 ∧ sn_jn (fun (S8 : sn_S) => (vp_in i3 6 ∧ sn_lt (S8.1 26 (i3).toNatClampNeg) (fun x10 => sn_jn (fun (S11 : sn_S) => rc5 x10 (i3 + (-1)) S11) (fun (k12 : sn_S → Prop) => ((i3 ≤ p2 → k12 S8) ∧ (¬ i3 ≤ p2 → (vp_in i3 6 ∧ sn_lt (sn_pI S8 26 (i3).toNatClampNeg 1000000) (fun S13 => k12 S13)))))))) (fun (k9 : sn_S → Prop) => sn_jn (κ := Prop) ((vp_in i3 6 ∧ sn_lt (sn_pI S4 26 (i3).toNatClampNeg i2) (fun S15 => (vp_in i3 5 ∧ (vp_in i3 5 ∧ sn_lt (sn_pI S15 27 (i3).toNatClampNeg (S15.1 28 (i3).toNatClampNeg)) (fun S16 => k9 S16)))))) (fun (k14 : Prop) => (((S4.1 26 (i3).toNatClampNeg) = 1000000 → k14) ∧ (¬ (S4.1 26 (i3).toNatClampNeg) = 1000000 → ((v6 = 0 → (vp_in i3 6 ∧ ((i2 ≤ (S4.1 26 (i3).toNatClampNeg) → k9 S4) ∧ (¬ i2 ≤ (S4.1 26 (i3).toNatClampNeg) → k14)))) ∧ (¬ v6 = 0 → (vp_in i3 6 ∧ (((S4.1 26 (i3).toNatClampNeg) ≤ i2 → k9 S4) ∧ (¬ (S4.1 26 (i3).toNatClampNeg) ≤ i2 → k14))))))))))) (fun (k7 : Int32 → Prop) => ((¬ (i3 - i3 / 2 * 2) = 0 → k7 0) ∧ ((i3 - i3 / 2 * 2) = 0 → k7 1)))))) p3 x1 S)
theorem wkX9_settleDuel {w : sn_W} {C : sn_C} (hO : sn_Ok LoM w C RX9 cX9_settleDuel 7 none [] "settleDuel") (p1 : Int32) (p2 : Int32) (p3 : Int32) (S : sn_S) (Q : sn_S → Prop) : wpX9_settleDuel p1 p2 p3 S Q → sn_G LoM w rmX9_settleDuel (sn_qV Q) sn_noE C 0 0 0 [(0, .ref (w.2.2.1 0)), (1, .int p1), (2, .int p2), (3, .int p3)] [] S := by
  unfold wpX9_settleDuel
  generalize hQq : (sn_qV Q) = Qq
  refine sn_iload_n hO 3 rfl dX9_settleDuel_0 ?_
  refine sn_istore hO (lv' := [(4, .int p3), (0, .ref (w.2.2.1 0)), (1, .int p1), (2, .int p2), (3, .int p3)]) (by decide) rfl dX9_settleDuel_1 ?_
  refine sn_iload_n hO 2 rfl dX9_settleDuel_3 ?_
  refine sn_iconst hO kc_1 dX9_settleDuel_4 ?_
  refine sn_isub hO dX9_settleDuel_5 ?_
  refine sn_nmI (fun x1 => ?_)
  refine sn_istore hO (lv' := [(5, .int x1), (4, .int p3), (0, .ref (w.2.2.1 0)), (1, .int p1), (2, .int p2), (3, .int p3)]) (by decide) rfl dX9_settleDuel_6 ?_
  refine sn_sub [2, 4, 1, 0] rfl ?_
  refine sn_lp3_walk (Gd := fun (i2 : Int32) (i3 : Int32) (S4 : sn_S) => sn_G LoM w rmX9_settleDuel Qq sn_noE C 0 0 8 [(0, .ref (w.2.2.1 0)), (2, .int p2), (4, .int i2), (5, .int i3)] [] S4) ?_ _ _ _
  intro rc5 hrc5 i2 i3 S4
  refine sn_iload hO 3 rfl dX9_settleDuel_8 ?_
  refine sn_iload_n hO 1 rfl dX9_settleDuel_10 ?_
  refine sn_icmp_lt hO 127 (by decide) dX9_settleDuel_11 ?_ ?_
  · subst hQq
    exact sn_vret hO rfl dX9_settleDuel_127
  · refine sn_iload hO 3 rfl dX9_settleDuel_14 ?_
    refine sn_iconst hO kc_2 dX9_settleDuel_16 ?_
    refine sn_irem hO (by decide) dX9_settleDuel_17 ?_
    refine sn_jn_walk (fun (k : Int32 → Prop) => ∀ (v6 : Int32), k v6 → sn_G LoM w rmX9_settleDuel Qq sn_noE C 0 0 26 [(0, .ref (w.2.2.1 0)), (2, .int p2), (4, .int i2), (5, .int i3)] [.int v6] S4) ?_ ?_
    · intro v6
      refine sn_istore hO (lv' := [(6, .int v6), (0, .ref (w.2.2.1 0)), (2, .int p2), (4, .int i2), (5, .int i3)]) (by decide) rfl dX9_settleDuel_26 ?_
      refine sn_aload_n hO 1 rfl dX9_settleDuel_28 ?_
      refine sn_getF hO fmX9_117 atM_0 dX9_settleDuel_29 ?_
      refine sn_iload hO 4 rfl dX9_settleDuel_32 ?_
      refine sn_iald hO atM_26 rfl dX9_settleDuel_34 ?_
      refine sn_ldc_w hO q1956 dX9_settleDuel_35 ?_
      refine sn_jn_walk (fun (k : sn_S → Prop) => ∀ (S8 : sn_S), k S8 → sn_G LoM w rmX9_settleDuel Qq sn_noE C 0 0 96 [(0, .ref (w.2.2.1 0)), (2, .int p2), (5, .int i3)] [] S8) ?_ ?_
      · intro S8
        refine sn_aload_n hO 0 rfl dX9_settleDuel_96 ?_
        refine sn_getF hO fmX9_117 atM_0 dX9_settleDuel_97 ?_
        refine sn_iload hO 2 rfl dX9_settleDuel_100 ?_
        refine sn_iald hO atM_26 rfl dX9_settleDuel_102 ?_
        refine sn_nmI (fun x10 => ?_)
        refine sn_istore hO (lv' := [(4, .int x10), (0, .ref (w.2.2.1 0)), (2, .int p2), (5, .int i3)]) (by decide) rfl dX9_settleDuel_103 ?_
        refine sn_iload hO 3 rfl dX9_settleDuel_105 ?_
        refine sn_iload_n hO 2 rfl dX9_settleDuel_107 ?_
        refine sn_jn_walk (fun (k : sn_S → Prop) => ∀ (S11 : sn_S), k S11 → sn_G LoM w rmX9_settleDuel Qq sn_noE C 0 0 121 [(0, .ref (w.2.2.1 0)), (2, .int p2), (4, .int x10), (5, .int i3)] [] S11) ?_ ?_
        · intro S11
          refine sn_iinc hO (lv' := [(5, .int (i3 + (-1))), (0, .ref (w.2.2.1 0)), (2, .int p2), (4, .int x10)]) 3 rfl ki_m1 (by decide) rfl dX9_settleDuel_121 ?_
          refine sn_goto hO 8 (by decide) dX9_settleDuel_124 ?_
          refine sn_sub [1, 2, 3, 0] rfl ?_
          exact hrc5 _ _ _
        · intro k12 hk12
          refine sn_icmp_le hO 121 (by decide) dX9_settleDuel_108 ?_ ?_
          · refine sn_sub [1, 2, 0, 3] rfl ?_
            exact hk12 _
          · refine sn_aload_n hO 1 rfl dX9_settleDuel_111 ?_
            refine sn_getF hO fmX9_117 atM_0 dX9_settleDuel_112 ?_
            refine sn_iload hO 3 rfl dX9_settleDuel_115 ?_
            refine sn_ldc_w hO q1956 dX9_settleDuel_117 ?_
            refine sn_iast hO atM_26 rfl dX9_settleDuel_120 ?_
            refine sn_nmS (fun S13 => ?_)
            refine sn_sub [1, 2, 0, 3] rfl ?_
            exact hk12 _
      · intro k9 hk9
        refine sn_jn_walk (fun (k : Prop) => k → sn_G LoM w rmX9_settleDuel Qq sn_noE C 0 0 73 [(0, .ref (w.2.2.1 0)), (2, .int p2), (4, .int i2), (5, .int i3)] [] S4) ?_ ?_
        · refine sn_aload_n hO 0 rfl dX9_settleDuel_73 ?_
          refine sn_getF hO fmX9_117 atM_0 dX9_settleDuel_74 ?_
          refine sn_iload hO 3 rfl dX9_settleDuel_77 ?_
          refine sn_iload hO 2 rfl dX9_settleDuel_79 ?_
          refine sn_iast hO atM_26 rfl dX9_settleDuel_81 ?_
          refine sn_nmS (fun S15 => ?_)
          refine sn_aload_n hO 0 rfl dX9_settleDuel_82 ?_
          refine sn_getF hO fmX9_120 atM_0 dX9_settleDuel_83 ?_
          refine sn_iload hO 3 rfl dX9_settleDuel_86 ?_
          refine sn_aload_n hO 0 rfl dX9_settleDuel_88 ?_
          refine sn_getF hO fmX9_123 atM_0 dX9_settleDuel_89 ?_
          refine sn_iload hO 3 rfl dX9_settleDuel_92 ?_
          refine sn_iald hO atM_28 rfl dX9_settleDuel_94 ?_
          refine sn_iast hO atM_27 rfl dX9_settleDuel_95 ?_
          refine sn_nmS (fun S16 => ?_)
          refine sn_sub [0, 1, 3] rfl ?_
          exact hk9 _
        · intro k14 hk14
          refine sn_icmp_eq hO 73 (by decide) dX9_settleDuel_38 ?_ ?_
          · refine sn_sub [1, 2, 3, 4] rfl ?_
            exact hk14
          · refine sn_iload hO 0 rfl dX9_settleDuel_41 ?_
            refine sn_if_eq hO 61 (by decide) dX9_settleDuel_43 ?_ ?_
            · refine sn_iload hO 3 rfl dX9_settleDuel_61 ?_
              refine sn_aload_n hO 1 rfl dX9_settleDuel_63 ?_
              refine sn_getF hO fmX9_117 atM_0 dX9_settleDuel_64 ?_
              refine sn_iload hO 4 rfl dX9_settleDuel_67 ?_
              refine sn_iald hO atM_26 rfl dX9_settleDuel_69 ?_
              refine sn_icmp_le hO 96 (by decide) dX9_settleDuel_70 ?_ ?_
              · refine sn_sub [1, 2, 4] rfl ?_
                exact hk9 _
              · refine sn_sub [1, 2, 3, 4] rfl ?_
                exact hk14
            · refine sn_iload hO 3 rfl dX9_settleDuel_46 ?_
              refine sn_aload_n hO 1 rfl dX9_settleDuel_48 ?_
              refine sn_getF hO fmX9_117 atM_0 dX9_settleDuel_49 ?_
              refine sn_iload hO 4 rfl dX9_settleDuel_52 ?_
              refine sn_iald hO atM_26 rfl dX9_settleDuel_54 ?_
              refine sn_icmp_ge hO 96 (by decide) dX9_settleDuel_55 ?_ ?_
              · refine sn_sub [1, 2, 4] rfl ?_
                exact hk9 _
              · refine sn_goto hO 73 (by decide) dX9_settleDuel_58 ?_
                refine sn_sub [1, 2, 3, 4] rfl ?_
                exact hk14
    · intro k7 hk7
      refine sn_if_ne hO 25 (by decide) dX9_settleDuel_18 ?_ ?_
      · refine sn_iconst hO kc_0 dX9_settleDuel_25 ?_
        exact hk7 _
      · refine sn_iconst hO kc_1 dX9_settleDuel_21 ?_
        refine sn_goto hO 26 (by decide) dX9_settleDuel_22 ?_
        exact hk7 _
theorem ctX9_settleDuel {w : sn_W} {p1 : Int32} {p2 : Int32} {p3 : Int32} {S : sn_S} {Q : sn_S → Prop} (h : wpX9_settleDuel p1 p2 p3 S Q) : sn_Ct LoM w yX9_settleDuel (ws_ yX9_settleDuel cX9_settleDuel 7 none) rmX9_settleDuel [.ref (w.2.2.1 0), .int p1, .int p2, .int p3] S (sn_qV Q) sn_noE := sn_Ct_of (LoM_X w) (by decide) (Nat.le_of_ble_eq_true rfl) RX9 rfl (fun C hO => wkX9_settleDuel hO p1 p2 p3 S Q h)
def rmX9_duel : Room := { frames := 7, cells := 0, slots := 0, locals := 186 }
/-- SnailPostModel.duel(III)I -/
def wpX9_duel (p1 : Int32) (p2 : Int32) (p3 : Int32) (S : sn_S) (Q : Int32 → sn_S → Prop) : Prop :=
  sn_lt (sn_pI S 0 0 0) (fun S1 => wpX9_in (Int32.toInt64 p1) 1 5 (fun (r2 : Int32) => ((r2 = 0 → Q (-1) S1) ∧ (¬ r2 = 0 → wpX9_isSnail p2 S1 (fun (r3 : Int32) => ((r3 = 0 → Q (-1) S1) ∧ (¬ r3 = 0 → wpX9_in (Int32.toInt64 p3) 0 1 (fun (r4 : Int32) => ((¬ r4 = 0 → wpX9_dawn S1 (fun (S5 : sn_S) => sn_jn (fun (S6 : sn_S) => wpX9_keepGarden 0 S6 (fun (S8 : sn_S) => sn_jn (fun (S9 : sn_S) => ((¬ p3 = 0 → (vp_in 0 5 ∧ Q (S9.1 27 (0 : Int32).toNatClampNeg) S9)) ∧ (p3 = 0 → (vp_in 0 6 ∧ Q (S9.1 26 (0 : Int32).toNatClampNeg) S9)))) (fun (k10 : sn_S → Prop) => sn_lp2 (fun (rc13 : Int32 → sn_S → Prop) (i11 : Int32) (S12 : sn_S) => ((i11 = (-1) → k10 S12) ∧ (¬ i11 = (-1) → wpX9_backTo i11 S12 (fun (S14 : sn_S) => sn_jn (fun (S15 : sn_S) => sn_jn (fun (S17 : sn_S) => (vp_in p2 6 ∧ wpX9_ofSnail p2 1 S17 (fun (r19 : Int32) => wpX9_apart (S17.1 15 (p2).toNatClampNeg) r19 (fun (r20 : Int32) => wpX9_nextPlan p1 S17 (fun (r21 : Int32) (S22 : sn_S) => sn_jn (fun (v23 : Int32) => wpX9_settleDuel p1 v23 r20 S22 (fun (S25 : sn_S) => rc13 r21 S25)) (fun (k24 : Int32 → Prop) => ((¬ r21 = (-1) → k24 r21) ∧ (r21 = (-1) → k24 0)))))))) (fun (k18 : sn_S → Prop) => sn_lp2 (fun (rc28 : Int32 → sn_S → Prop) (i26 : Int32) (S27 : sn_S) => ((p1 ≤ i26 → k18 S27) ∧ (¬ p1 ≤ i26 → (vp_in i26 5 ∧ (vp_in i26 5 ∧ sn_lt (sn_pI S27 28 (i26).toNatClampNeg (S27.1 24 (i26).toNatClampNeg)) (fun S29 => rc28 (i26 + 1) S29)))))) 0 S15)) (fun (k16 : sn_S → Prop) => sn_lp2 (fun (rc32 : Int32 → sn_S → Prop) (i30 : Int32) (S31 : sn_S) => ((p1 ≤ i30 → k16 S31) ∧ (¬ p1 ≤ i30 → (vp_in i30 5 ∧ wpX9_runHour i30 (S31.1 24 (i30).toNatClampNeg) S31 (fun (S33 : sn_S) => wpX9_keepGarden (i30 + 1) S33 (fun (S34 : sn_S) => rc32 (i30 + 1) S34)))))) i11 S14))))) 0 S8))) (fun (k7 : sn_S → Prop) => sn_lp2 (fun (rc37 : Int32 → sn_S → Prop) (i35 : Int32) (S36 : sn_S) => ((5 ≤ i35 → k7 S36) ∧ (¬ 5 ≤ i35 → (vp_in i35 5 ∧ sn_lt (sn_pI S36 24 (i35).toNatClampNeg (-1)) (fun S38 => (vp_in i35 6 ∧ sn_lt (sn_pI S38 26 (i35).toNatClampNeg 1000000) (fun S39 => rc37 (i35 + 1) S39))))))) 0 S5))) ∧ (r4 = 0 → Q (-1) S1))))))))))
theorem wkX9_duel {w : sn_W} {C : sn_C} (hO : sn_Ok LoM w C RX9 cX9_duel 6 (some .int) [] "duel") (p1 : Int32) (p2 : Int32) (p3 : Int32) (S : sn_S) (Q : Int32 → sn_S → Prop) : wpX9_duel p1 p2 p3 S Q → sn_G LoM w rmX9_duel (sn_qI Q) sn_noE C 0 0 0 [(0, .ref (w.2.2.1 0)), (1, .int p1), (2, .int p2), (3, .int p3)] [] S := by
  unfold wpX9_duel
  generalize hQq : (sn_qI Q) = Qq
  refine sn_aload_n hO 0 rfl dX9_duel_0 ?_
  refine sn_iconst hO kc_0 dX9_duel_1 ?_
  refine sn_putI hO fmX9_150 atM_0 rfl rfl dX9_duel_2 ?_
  refine sn_nmS (fun S1 => ?_)
  refine sn_iload_n hO 1 rfl dX9_duel_5 ?_
  refine sn_i2l hO dX9_duel_6 ?_
  refine sn_lconst hO (v := 1) rfl dX9_duel_7 ?_
  refine sn_ldc2 hO q1705 dX9_duel_8 ?_
  refine sn_callS hO (c2 := 0) (s2 := 0) [.long (Int32.toInt64 p1), .long 1, .long 5] csX9_160 ctX9_in ⟨Nat.le_of_ble_eq_true rfl, Nat.le_of_ble_eq_true rfl⟩ rfl rfl (Nat.le_of_ble_eq_true rfl) ⟨Nat.le_of_ble_eq_true rfl, Nat.le_of_ble_eq_true rfl, rfl, rfl⟩ dX9_duel_11 (sn_bIp (fun r2 => ?_)) sn_x0
  refine sn_if_eq hO 35 (by decide) dX9_duel_14 ?_ ?_
  · refine sn_iconst hO kc_m1 dX9_duel_35 ?_
    subst hQq
    exact sn_iret hO rfl dX9_duel_36
  · refine sn_aload_n hO 0 rfl dX9_duel_17 ?_
    refine sn_iload_n hO 2 rfl dX9_duel_18 ?_
    refine sn_callV hO (c2 := 0) (s2 := 0) [.int p2] cvX9_197 (fun _ => sn_Rv_K atM_0) ctX9_isSnail ⟨Nat.le_of_ble_eq_true rfl, Nat.le_of_ble_eq_true rfl⟩ rfl rfl (Nat.le_of_ble_eq_true rfl) ⟨Nat.le_of_ble_eq_true rfl, Nat.le_of_ble_eq_true rfl, rfl, rfl⟩ dX9_duel_19 (sn_bIp (fun r3 => ?_)) sn_x0
    refine sn_if_eq hO 35 (by decide) dX9_duel_22 ?_ ?_
    · refine sn_iconst hO kc_m1 dX9_duel_35 ?_
      subst hQq
      exact sn_iret hO rfl dX9_duel_36
    · refine sn_iload_n hO 3 rfl dX9_duel_25 ?_
      refine sn_i2l hO dX9_duel_26 ?_
      refine sn_lconst hO (v := 0) rfl dX9_duel_27 ?_
      refine sn_lconst hO (v := 1) rfl dX9_duel_28 ?_
      refine sn_callS hO (c2 := 0) (s2 := 0) [.long (Int32.toInt64 p3), .long 0, .long 1] csX9_160 ctX9_in ⟨Nat.le_of_ble_eq_true rfl, Nat.le_of_ble_eq_true rfl⟩ rfl rfl (Nat.le_of_ble_eq_true rfl) ⟨Nat.le_of_ble_eq_true rfl, Nat.le_of_ble_eq_true rfl, rfl, rfl⟩ dX9_duel_29 (sn_bIp (fun r4 => ?_)) sn_x0
      refine sn_if_ne hO 37 (by decide) dX9_duel_32 ?_ ?_
      · refine sn_aload_n hO 0 rfl dX9_duel_37 ?_
        refine sn_callV hO (c2 := 0) (s2 := 0) [] cvX9_401 (fun _ => sn_Rv_K atM_0) ctX9_dawn ⟨Nat.le_of_ble_eq_true rfl, Nat.le_of_ble_eq_true rfl⟩ rfl rfl (Nat.le_of_ble_eq_true rfl) ⟨Nat.le_of_ble_eq_true rfl, Nat.le_of_ble_eq_true rfl, rfl, rfl⟩ dX9_duel_38 (sn_bV (fun S5 => ?_)) sn_x0
        refine sn_iconst hO kc_0 dX9_duel_41 ?_
        refine sn_istore hO (lv' := [(4, .int 0), (0, .ref (w.2.2.1 0)), (1, .int p1), (2, .int p2), (3, .int p3)]) (by decide) rfl dX9_duel_42 ?_
        refine sn_jn_walk (fun (k : sn_S → Prop) => ∀ (S6 : sn_S), k S6 → sn_G LoM w rmX9_duel Qq sn_noE C 0 0 74 [(0, .ref (w.2.2.1 0)), (1, .int p1), (2, .int p2), (3, .int p3)] [] S6) ?_ ?_
        · intro S6
          refine sn_iconst hO kc_0 dX9_duel_74 ?_
          refine sn_istore hO (lv' := [(4, .int 0), (0, .ref (w.2.2.1 0)), (1, .int p1), (2, .int p2), (3, .int p3)]) (by decide) rfl dX9_duel_75 ?_
          refine sn_aload_n hO 1 rfl dX9_duel_77 ?_
          refine sn_iconst hO kc_0 dX9_duel_78 ?_
          refine sn_callV hO (c2 := 0) (s2 := 0) [.int 0] cvX9_423 (fun _ => sn_Rv_K atM_0) ctX9_keepGarden ⟨Nat.le_of_ble_eq_true rfl, Nat.le_of_ble_eq_true rfl⟩ rfl rfl (Nat.le_of_ble_eq_true rfl) ⟨Nat.le_of_ble_eq_true rfl, Nat.le_of_ble_eq_true rfl, rfl, rfl⟩ dX9_duel_79 (sn_bV (fun S8 => ?_)) sn_x0
          refine sn_jn_walk (fun (k : sn_S → Prop) => ∀ (S9 : sn_S), k S9 → sn_G LoM w rmX9_duel Qq sn_noE C 0 0 206 [(0, .ref (w.2.2.1 0)), (3, .int p3)] [] S9) ?_ ?_
          · intro S9
            refine sn_iload_n hO 1 rfl dX9_duel_206 ?_
            refine sn_if_ne hO 219 (by decide) dX9_duel_207 ?_ ?_
            · refine sn_aload_n hO 0 rfl dX9_duel_219 ?_
              refine sn_getF hO fmX9_120 atM_0 dX9_duel_220 ?_
              refine sn_iconst hO kc_0 dX9_duel_223 ?_
              refine sn_iald hO atM_27 rfl dX9_duel_224 ?_
              subst hQq
              exact sn_iret hO rfl dX9_duel_225
            · refine sn_aload_n hO 0 rfl dX9_duel_210 ?_
              refine sn_getF hO fmX9_117 atM_0 dX9_duel_211 ?_
              refine sn_iconst hO kc_0 dX9_duel_214 ?_
              refine sn_iald hO atM_26 rfl dX9_duel_215 ?_
              refine sn_goto hO 225 (by decide) dX9_duel_216 ?_
              subst hQq
              exact sn_iret hO rfl dX9_duel_225
          · intro k10 hk10
            refine sn_sub [1, 2, 3, 4, 0] rfl ?_
            refine sn_lp2_walk (Gd := fun (i11 : Int32) (S12 : sn_S) => sn_G LoM w rmX9_duel Qq sn_noE C 0 0 82 [(0, .ref (w.2.2.1 0)), (1, .int p1), (2, .int p2), (3, .int p3), (4, .int i11)] [] S12) ?_ _ _
            intro rc13 hrc13 i11 S12
            refine sn_iload hO 4 rfl dX9_duel_82 ?_
            refine sn_iconst hO kc_m1 dX9_duel_84 ?_
            refine sn_icmp_eq hO 206 (by decide) dX9_duel_85 ?_ ?_
            · refine sn_sub [0, 3] rfl ?_
              exact hk10 _
            · refine sn_aload_n hO 0 rfl dX9_duel_88 ?_
              refine sn_iload hO 4 rfl dX9_duel_89 ?_
              refine sn_callV hO (c2 := 0) (s2 := 0) [.int i11] cvX9_426 (fun _ => sn_Rv_K atM_0) ctX9_backTo ⟨Nat.le_of_ble_eq_true rfl, Nat.le_of_ble_eq_true rfl⟩ rfl rfl (Nat.le_of_ble_eq_true rfl) ⟨Nat.le_of_ble_eq_true rfl, Nat.le_of_ble_eq_true rfl, rfl, rfl⟩ dX9_duel_91 (sn_bV (fun S14 => ?_)) sn_x0
              refine sn_iload hO 4 rfl dX9_duel_94 ?_
              refine sn_istore hO (lv' := [(5, .int i11), (0, .ref (w.2.2.1 0)), (1, .int p1), (2, .int p2), (3, .int p3), (4, .int i11)]) (by decide) rfl dX9_duel_96 ?_
              refine sn_jn_walk (fun (k : sn_S → Prop) => ∀ (S15 : sn_S), k S15 → sn_G LoM w rmX9_duel Qq sn_noE C 0 0 131 [(0, .ref (w.2.2.1 0)), (1, .int p1), (2, .int p2), (3, .int p3)] [] S15) ?_ ?_
              · intro S15
                refine sn_iconst hO kc_0 dX9_duel_131 ?_
                refine sn_istore hO (lv' := [(5, .int 0), (0, .ref (w.2.2.1 0)), (1, .int p1), (2, .int p2), (3, .int p3)]) (by decide) rfl dX9_duel_132 ?_
                refine sn_jn_walk (fun (k : sn_S → Prop) => ∀ (S17 : sn_S), k S17 → sn_G LoM w rmX9_duel Qq sn_noE C 0 0 160 [(0, .ref (w.2.2.1 0)), (1, .int p1), (2, .int p2), (3, .int p3)] [] S17) ?_ ?_
                · intro S17
                  refine sn_aload_n hO 0 rfl dX9_duel_160 ?_
                  refine sn_getF hO fmX9_84 atM_0 dX9_duel_161 ?_
                  refine sn_iload_n hO 2 rfl dX9_duel_164 ?_
                  refine sn_iald hO atM_15 rfl dX9_duel_165 ?_
                  refine sn_aload_n hO 0 rfl dX9_duel_166 ?_
                  refine sn_iload_n hO 2 rfl dX9_duel_167 ?_
                  refine sn_iconst hO kc_1 dX9_duel_168 ?_
                  refine sn_callV hO (c2 := 0) (s2 := 0) [.int p2, .int 1] cvX9_169 (fun _ => sn_Rv_K atM_0) ctX9_ofSnail ⟨Nat.le_of_ble_eq_true rfl, Nat.le_of_ble_eq_true rfl⟩ rfl rfl (Nat.le_of_ble_eq_true rfl) ⟨Nat.le_of_ble_eq_true rfl, Nat.le_of_ble_eq_true rfl, rfl, rfl⟩ dX9_duel_169 (sn_bIp (fun r19 => ?_)) sn_x0
                  refine sn_callS hO (c2 := 0) (s2 := 0) [.int (S17.1 15 (p2).toNatClampNeg), .int r19] csX9_373 ctX9_apart ⟨Nat.le_of_ble_eq_true rfl, Nat.le_of_ble_eq_true rfl⟩ rfl rfl (Nat.le_of_ble_eq_true rfl) ⟨Nat.le_of_ble_eq_true rfl, Nat.le_of_ble_eq_true rfl, rfl, rfl⟩ dX9_duel_172 (sn_bIp (fun r20 => ?_)) sn_x0
                  refine sn_istore hO (lv' := [(5, .int r20), (0, .ref (w.2.2.1 0)), (1, .int p1), (2, .int p2), (3, .int p3)]) (by decide) rfl dX9_duel_175 ?_
                  refine sn_aload_n hO 1 rfl dX9_duel_177 ?_
                  refine sn_iload_n hO 2 rfl dX9_duel_178 ?_
                  refine sn_callV hO (c2 := 0) (s2 := 0) [.int p1] cvX9_432 (fun _ => sn_Rv_K atM_0) ctX9_nextPlan ⟨Nat.le_of_ble_eq_true rfl, Nat.le_of_ble_eq_true rfl⟩ rfl rfl (Nat.le_of_ble_eq_true rfl) ⟨Nat.le_of_ble_eq_true rfl, Nat.le_of_ble_eq_true rfl, rfl, rfl⟩ dX9_duel_179 (sn_bI (fun r21 S22 => ?_)) sn_x0
                  refine sn_istore hO (lv' := [(4, .int r21), (5, .int r20), (0, .ref (w.2.2.1 0)), (1, .int p1), (2, .int p2), (3, .int p3)]) (by decide) rfl dX9_duel_182 ?_
                  refine sn_aload_n hO 2 rfl dX9_duel_184 ?_
                  refine sn_iload_n hO 3 rfl dX9_duel_185 ?_
                  refine sn_iload hO 0 rfl dX9_duel_186 ?_
                  refine sn_iconst hO kc_m1 dX9_duel_188 ?_
                  refine sn_jn_walk (fun (k : Int32 → Prop) => ∀ (v23 : Int32), k v23 → sn_G LoM w rmX9_duel Qq sn_noE C 0 0 198 [(0, .ref (w.2.2.1 0)), (1, .int p1), (2, .int p2), (3, .int p3), (4, .int r21), (5, .int r20)] [.int v23, .int p1, .ref (w.2.2.1 0)] S22) ?_ ?_
                  · intro v23
                    refine sn_iload hO 5 rfl dX9_duel_198 ?_
                    refine sn_callV hO (c2 := 0) (s2 := 0) [.int p1, .int v23, .int r20] cvX9_445 (fun _ => sn_Rv_K atM_0) ctX9_settleDuel ⟨Nat.le_of_ble_eq_true rfl, Nat.le_of_ble_eq_true rfl⟩ rfl rfl (Nat.le_of_ble_eq_true rfl) ⟨Nat.le_of_ble_eq_true rfl, Nat.le_of_ble_eq_true rfl, rfl, rfl⟩ dX9_duel_200 (sn_bV (fun S25 => ?_)) sn_x0
                    refine sn_goto hO 82 (by decide) dX9_duel_203 ?_
                    refine sn_sub [0, 1, 2, 3, 4] rfl ?_
                    exact hrc13 _ _
                  · intro k24 hk24
                    refine sn_icmp_ne hO 196 (by decide) dX9_duel_189 ?_ ?_
                    · refine sn_iload hO 0 rfl dX9_duel_196 ?_
                      refine sn_sub [2, 3, 4, 5, 0, 1] rfl ?_
                      exact hk24 _
                    · refine sn_iconst hO kc_0 dX9_duel_192 ?_
                      refine sn_goto hO 198 (by decide) dX9_duel_193 ?_
                      refine sn_sub [2, 3, 4, 5, 0, 1] rfl ?_
                      exact hk24 _
                · intro k18 hk18
                  refine sn_sub [1, 2, 3, 4, 0] rfl ?_
                  refine sn_lp2_walk (Gd := fun (i26 : Int32) (S27 : sn_S) => sn_G LoM w rmX9_duel Qq sn_noE C 0 0 134 [(0, .ref (w.2.2.1 0)), (1, .int p1), (2, .int p2), (3, .int p3), (5, .int i26)] [] S27) ?_ _ _
                  intro rc28 hrc28 i26 S27
                  refine sn_iload hO 4 rfl dX9_duel_134 ?_
                  refine sn_iload_n hO 1 rfl dX9_duel_136 ?_
                  refine sn_icmp_ge hO 160 (by decide) dX9_duel_137 ?_ ?_
                  · refine sn_sub [0, 1, 2, 3] rfl ?_
                    exact hk18 _
                  · refine sn_aload_n hO 0 rfl dX9_duel_140 ?_
                    refine sn_getF hO fmX9_123 atM_0 dX9_duel_141 ?_
                    refine sn_iload hO 4 rfl dX9_duel_144 ?_
                    refine sn_aload_n hO 0 rfl dX9_duel_146 ?_
                    refine sn_getF hO fmX9_111 atM_0 dX9_duel_147 ?_
                    refine sn_iload hO 4 rfl dX9_duel_150 ?_
                    refine sn_iald hO atM_24 rfl dX9_duel_152 ?_
                    refine sn_iast hO atM_28 rfl dX9_duel_153 ?_
                    refine sn_nmS (fun S29 => ?_)
                    refine sn_iinc hO (lv' := [(5, .int (i26 + 1)), (0, .ref (w.2.2.1 0)), (1, .int p1), (2, .int p2), (3, .int p3)]) 4 rfl ki_1 (by decide) rfl dX9_duel_154 ?_
                    refine sn_goto hO 134 (by decide) dX9_duel_157 ?_
                    refine sn_sub [1, 2, 3, 4, 0] rfl ?_
                    exact hrc28 _ _
              · intro k16 hk16
                refine sn_sub [1, 2, 3, 4, 0] rfl ?_
                refine sn_lp2_walk (Gd := fun (i30 : Int32) (S31 : sn_S) => sn_G LoM w rmX9_duel Qq sn_noE C 0 0 98 [(0, .ref (w.2.2.1 0)), (1, .int p1), (2, .int p2), (3, .int p3), (5, .int i30)] [] S31) ?_ _ _
                intro rc32 hrc32 i30 S31
                refine sn_iload hO 4 rfl dX9_duel_98 ?_
                refine sn_iload_n hO 1 rfl dX9_duel_100 ?_
                refine sn_icmp_ge hO 131 (by decide) dX9_duel_101 ?_ ?_
                · refine sn_sub [0, 1, 2, 3] rfl ?_
                  exact hk16 _
                · refine sn_aload_n hO 0 rfl dX9_duel_104 ?_
                  refine sn_iload hO 4 rfl dX9_duel_105 ?_
                  refine sn_aload_n hO 0 rfl dX9_duel_107 ?_
                  refine sn_getF hO fmX9_111 atM_0 dX9_duel_108 ?_
                  refine sn_iload hO 4 rfl dX9_duel_111 ?_
                  refine sn_iald hO atM_24 rfl dX9_duel_113 ?_
                  refine sn_callV hO (c2 := 0) (s2 := 0) [.int i30, .int (S31.1 24 (i30).toNatClampNeg)] cvX9_404 (fun _ => sn_Rv_K atM_0) ctX9_runHour ⟨Nat.le_of_ble_eq_true rfl, Nat.le_of_ble_eq_true rfl⟩ rfl rfl (Nat.le_of_ble_eq_true rfl) ⟨Nat.le_of_ble_eq_true rfl, Nat.le_of_ble_eq_true rfl, rfl, rfl⟩ dX9_duel_114 (sn_bV (fun S33 => ?_)) sn_x0
                  refine sn_aload_n hO 0 rfl dX9_duel_117 ?_
                  refine sn_iload hO 4 rfl dX9_duel_118 ?_
                  refine sn_iconst hO kc_1 dX9_duel_120 ?_
                  refine sn_iadd hO dX9_duel_121 ?_
                  refine sn_callV hO (c2 := 0) (s2 := 0) [.int (i30 + 1)] cvX9_423 (fun _ => sn_Rv_K atM_0) ctX9_keepGarden ⟨Nat.le_of_ble_eq_true rfl, Nat.le_of_ble_eq_true rfl⟩ rfl rfl (Nat.le_of_ble_eq_true rfl) ⟨Nat.le_of_ble_eq_true rfl, Nat.le_of_ble_eq_true rfl, rfl, rfl⟩ dX9_duel_122 (sn_bV (fun S34 => ?_)) sn_x0
                  refine sn_iinc hO (lv' := [(5, .int (i30 + 1)), (0, .ref (w.2.2.1 0)), (1, .int p1), (2, .int p2), (3, .int p3)]) 4 rfl ki_1 (by decide) rfl dX9_duel_125 ?_
                  refine sn_goto hO 98 (by decide) dX9_duel_128 ?_
                  refine sn_sub [1, 2, 3, 4, 0] rfl ?_
                  exact hrc32 _ _
        · intro k7 hk7
          refine sn_sub [1, 2, 3, 4, 0] rfl ?_
          refine sn_lp2_walk (Gd := fun (i35 : Int32) (S36 : sn_S) => sn_G LoM w rmX9_duel Qq sn_noE C 0 0 44 [(0, .ref (w.2.2.1 0)), (1, .int p1), (2, .int p2), (3, .int p3), (4, .int i35)] [] S36) ?_ _ _
          intro rc37 hrc37 i35 S36
          refine sn_iload hO 4 rfl dX9_duel_44 ?_
          refine sn_iconst hO kc_5 dX9_duel_46 ?_
          refine sn_icmp_ge hO 74 (by decide) dX9_duel_47 ?_ ?_
          · refine sn_sub [0, 1, 2, 3] rfl ?_
            exact hk7 _
          · refine sn_aload_n hO 0 rfl dX9_duel_50 ?_
            refine sn_getF hO fmX9_111 atM_0 dX9_duel_51 ?_
            refine sn_iload hO 4 rfl dX9_duel_54 ?_
            refine sn_iconst hO kc_m1 dX9_duel_56 ?_
            refine sn_iast hO atM_24 rfl dX9_duel_57 ?_
            refine sn_nmS (fun S38 => ?_)
            refine sn_aload_n hO 0 rfl dX9_duel_58 ?_
            refine sn_getF hO fmX9_117 atM_0 dX9_duel_59 ?_
            refine sn_iload hO 4 rfl dX9_duel_62 ?_
            refine sn_ldc_w hO q1956 dX9_duel_64 ?_
            refine sn_iast hO atM_26 rfl dX9_duel_67 ?_
            refine sn_nmS (fun S39 => ?_)
            refine sn_iinc hO (lv' := [(4, .int (i35 + 1)), (0, .ref (w.2.2.1 0)), (1, .int p1), (2, .int p2), (3, .int p3)]) 4 rfl ki_1 (by decide) rfl dX9_duel_68 ?_
            refine sn_goto hO 44 (by decide) dX9_duel_71 ?_
            refine sn_sub [1, 2, 3, 4, 0] rfl ?_
            exact hrc37 _ _
      · refine sn_iconst hO kc_m1 dX9_duel_35 ?_
        subst hQq
        exact sn_iret hO rfl dX9_duel_36
theorem ctX9_duel {w : sn_W} {p1 : Int32} {p2 : Int32} {p3 : Int32} {S : sn_S} {Q : Int32 → sn_S → Prop} (h : wpX9_duel p1 p2 p3 S Q) : sn_Ct LoM w yX9_duel (ws_ yX9_duel cX9_duel 6 (some .int)) rmX9_duel [.ref (w.2.2.1 0), .int p1, .int p2, .int p3] S (sn_qI Q) sn_noE := sn_Ct_of (LoM_X w) (by decide) (Nat.le_of_ble_eq_true rfl) RX9 rfl (fun C hO => wkX9_duel hO p1 p2 p3 S Q h)
def rmX9_allSnails : Room := { frames := 0, cells := 0, slots := 0, locals := 0 }
/-- SnailPostModel.allSnails()I -/
def wpX9_allSnails (S : sn_S) (Q : Int32 → Prop) : Prop :=
  (vp_in 0 5680 ∧ Q ((1 <<< ((S.1 2 (0 : Int32).toNatClampNeg) &&& 31)) - 1))
theorem wkX9_allSnails {w : sn_W} {C : sn_C} (hO : sn_Ok LoM w C RX9 cX9_allSnails 1 (some .int) [] "allSnails") (S : sn_S) (Q : Int32 → Prop) : wpX9_allSnails S Q → sn_G LoM w rmX9_allSnails (sn_qI (fun r S1 => S1 = S ∧ Q r)) sn_noE C 0 0 0 [(0, .ref (w.2.2.1 0))] [] S := by
  unfold wpX9_allSnails
  generalize hQq : (sn_qI (fun r S1 => S1 = S ∧ Q r)) = Qq
  refine sn_iconst hO kc_1 dX9_allSnails_0 ?_
  refine sn_aload_n hO 0 rfl dX9_allSnails_1 ?_
  refine sn_getF hO fmX9_13 atM_0 dX9_allSnails_2 ?_
  refine sn_iconst hO kc_0 dX9_allSnails_5 ?_
  refine sn_iald hO atM_2 rfl dX9_allSnails_6 ?_
  refine sn_ishl hO dX9_allSnails_7 ?_
  refine sn_iconst hO kc_1 dX9_allSnails_8 ?_
  refine sn_isub hO dX9_allSnails_9 ?_
  subst hQq
  exact fun h => sn_iret hO rfl dX9_allSnails_10 ⟨rfl, h⟩
theorem ctX9_allSnails {w : sn_W} {S : sn_S} {Q : Int32 → Prop} (h : wpX9_allSnails S Q) : sn_Ct LoM w yX9_allSnails (ws_ yX9_allSnails cX9_allSnails 1 (some .int)) rmX9_allSnails [.ref (w.2.2.1 0)] S (sn_qI (fun r S1 => S1 = S ∧ Q r)) sn_noE := sn_Ct_of (LoM_X w) (by decide) (Nat.le_of_ble_eq_true rfl) RX9 rfl (fun C hO => wkX9_allSnails hO S Q h)
def rmX9_noSteps : Room := { frames := 0, cells := 0, slots := 0, locals := 0 }
/-- SnailPostModel.noSteps()V -/
def wpX9_noSteps (S : sn_S) (Q : sn_S → Prop) : Prop :=
  sn_lp2 (fun (rc3 : Int32 → sn_S → Prop) (i1 : Int32) (S2 : sn_S) => ((6 ≤ i1 → Q S2) ∧ (¬ 6 ≤ i1 → (vp_in i1 6 ∧ sn_lt (sn_pI S2 29 (i1).toNatClampNeg 0) (fun S4 => rc3 (i1 + 1) S4))))) 0 S
theorem wkX9_noSteps {w : sn_W} {C : sn_C} (hO : sn_Ok LoM w C RX9 cX9_noSteps 2 none [] "noSteps") (S : sn_S) (Q : sn_S → Prop) : wpX9_noSteps S Q → sn_G LoM w rmX9_noSteps (sn_qV Q) sn_noE C 0 0 0 [(0, .ref (w.2.2.1 0))] [] S := by
  unfold wpX9_noSteps
  generalize hQq : (sn_qV Q) = Qq
  refine sn_iconst hO kc_0 dX9_noSteps_0 ?_
  refine sn_istore_n hO (lv' := [(1, .int 0), (0, .ref (w.2.2.1 0))]) (by decide) rfl dX9_noSteps_1 ?_
  refine sn_sub [1, 0] rfl ?_
  refine sn_lp2_walk (Gd := fun (i1 : Int32) (S2 : sn_S) => sn_G LoM w rmX9_noSteps Qq sn_noE C 0 0 2 [(0, .ref (w.2.2.1 0)), (1, .int i1)] [] S2) ?_ _ _
  intro rc3 hrc3 i1 S2
  refine sn_iload_n hO 1 rfl dX9_noSteps_2 ?_
  refine sn_bipush hO kb_6 dX9_noSteps_3 ?_
  refine sn_icmp_ge hO 21 (by decide) dX9_noSteps_5 ?_ ?_
  · subst hQq
    exact sn_vret hO rfl dX9_noSteps_21
  · refine sn_aload_n hO 0 rfl dX9_noSteps_8 ?_
    refine sn_getF hO fmX9_126 atM_0 dX9_noSteps_9 ?_
    refine sn_iload_n hO 1 rfl dX9_noSteps_12 ?_
    refine sn_iconst hO kc_0 dX9_noSteps_13 ?_
    refine sn_iast hO atM_29 rfl dX9_noSteps_14 ?_
    refine sn_nmS (fun S4 => ?_)
    refine sn_iinc hO (lv' := [(1, .int (i1 + 1)), (0, .ref (w.2.2.1 0))]) 1 rfl ki_1 (by decide) rfl dX9_noSteps_15 ?_
    refine sn_goto hO 2 (by decide) dX9_noSteps_18 ?_
    refine sn_sub [1, 0] rfl ?_
    exact hrc3 _ _
theorem ctX9_noSteps {w : sn_W} {S : sn_S} {Q : sn_S → Prop} (h : wpX9_noSteps S Q) : sn_Ct LoM w yX9_noSteps (ws_ yX9_noSteps cX9_noSteps 2 none) rmX9_noSteps [.ref (w.2.2.1 0)] S (sn_qV Q) sn_noE := sn_Ct_of (LoM_X w) (by decide) (Nat.le_of_ble_eq_true rfl) RX9 rfl (fun C hO => wkX9_noSteps hO S Q h)
def rmX9_put1 : Room := { frames := 1, cells := 0, slots := 0, locals := 21 }
/-- SnailPostModel.put1(I)V -/
def wpX9_put1 (p1 : Int32) (S : sn_S) (Q : sn_S → Prop) : Prop :=
  sn_lp3 (fun (rc4 : Int32 → Int32 → sn_S → Prop) (i1 : Int32) (i2 : Int32) (S3 : sn_S) => ((i2 < 0 → Q S3) ∧ (¬ i2 < 0 → wpX9_is i1 i2 (fun (r5 : Int32) => sn_jn (fun (v6 : Int32) (S7 : sn_S) => rc4 v6 (i2 + (-1)) S7) (fun (k8 : Int32 → sn_S → Prop) => ((r5 = 0 → k8 i1 S3) ∧ (¬ r5 = 0 → (vp_in i2 6 ∧ sn_jn (fun (v9 : Int32) => sn_jn (fun (v11 : Int32) => (vp_in i2 6 ∧ sn_lt (sn_pI S3 29 (i2).toNatClampNeg v11) (fun S13 => sn_jn (fun (v14 : Int32) => k8 v14 S13) (fun (k15 : Int32 → Prop) => ((v9 = 0 → (vp_in i2 6 ∧ k15 (i1 ^^^ (S13.1 29 (i2).toNatClampNeg)))) ∧ (¬ v9 = 0 → k15 0)))))) (fun (k12 : Int32 → Prop) => ((v9 = 0 → (vp_in i2 6 ∧ k12 (S3.1 29 (i2).toNatClampNeg))) ∧ (¬ v9 = 0 → k12 i1)))) (fun (k10 : Int32 → Prop) => ((¬ (S3.1 29 (i2).toNatClampNeg) = 0 → k10 0) ∧ ((S3.1 29 (i2).toNatClampNeg) = 0 → k10 1))))))))))) p1 5 S
theorem wkX9_put1 {w : sn_W} {C : sn_C} (hO : sn_Ok LoM w C RX9 cX9_put1 5 none [] "put1") (p1 : Int32) (S : sn_S) (Q : sn_S → Prop) : wpX9_put1 p1 S Q → sn_G LoM w rmX9_put1 (sn_qV Q) sn_noE C 0 0 0 [(0, .ref (w.2.2.1 0)), (1, .int p1)] [] S := by
  unfold wpX9_put1
  generalize hQq : (sn_qV Q) = Qq
  refine sn_iload_n hO 1 rfl dX9_put1_0 ?_
  refine sn_istore_n hO (lv' := [(2, .int p1), (0, .ref (w.2.2.1 0)), (1, .int p1)]) (by decide) rfl dX9_put1_1 ?_
  refine sn_iconst hO kc_5 dX9_put1_2 ?_
  refine sn_istore_n hO (lv' := [(3, .int 5), (2, .int p1), (0, .ref (w.2.2.1 0)), (1, .int p1)]) (by decide) rfl dX9_put1_3 ?_
  refine sn_sub [2, 1, 0] rfl ?_
  refine sn_lp3_walk (Gd := fun (i1 : Int32) (i2 : Int32) (S3 : sn_S) => sn_G LoM w rmX9_put1 Qq sn_noE C 0 0 4 [(0, .ref (w.2.2.1 0)), (2, .int i1), (3, .int i2)] [] S3) ?_ _ _ _
  intro rc4 hrc4 i1 i2 S3
  refine sn_iload_n hO 2 rfl dX9_put1_4 ?_
  refine sn_if_lt hO 77 (by decide) dX9_put1_5 ?_ ?_
  · subst hQq
    exact sn_vret hO rfl dX9_put1_77
  · refine sn_iload_n hO 1 rfl dX9_put1_8 ?_
    refine sn_iload_n hO 2 rfl dX9_put1_9 ?_
    refine sn_callS hO (c2 := 0) (s2 := 0) [.int i1, .int i2] csX9_435 ctX9_is ⟨Nat.le_of_ble_eq_true rfl, Nat.le_of_ble_eq_true rfl⟩ rfl rfl (Nat.le_of_ble_eq_true rfl) ⟨Nat.le_of_ble_eq_true rfl, Nat.le_of_ble_eq_true rfl, rfl, rfl⟩ dX9_put1_10 (sn_bIp (fun r5 => ?_)) sn_x0
    refine sn_jn_walk (fun (k : Int32 → sn_S → Prop) => ∀ (v6 : Int32) (S7 : sn_S), k v6 S7 → sn_G LoM w rmX9_put1 Qq sn_noE C 0 0 71 [(0, .ref (w.2.2.1 0)), (2, .int v6), (3, .int i2)] [] S7) ?_ ?_
    · intro v6 S7
      refine sn_iinc hO (lv' := [(3, .int (i2 + (-1))), (0, .ref (w.2.2.1 0)), (2, .int v6)]) 2 rfl ki_m1 (by decide) rfl dX9_put1_71 ?_
      refine sn_goto hO 4 (by decide) dX9_put1_74 ?_
      refine sn_sub [1, 2, 0] rfl ?_
      exact hrc4 _ _ _
    · intro k8 hk8
      refine sn_if_eq hO 71 (by decide) dX9_put1_13 ?_ ?_
      · exact hk8 _ _
      · refine sn_aload_n hO 0 rfl dX9_put1_16 ?_
        refine sn_getF hO fmX9_126 atM_0 dX9_put1_17 ?_
        refine sn_iload_n hO 2 rfl dX9_put1_20 ?_
        refine sn_iald hO atM_29 rfl dX9_put1_21 ?_
        refine sn_jn_walk (fun (k : Int32 → Prop) => ∀ (v9 : Int32), k v9 → sn_G LoM w rmX9_put1 Qq sn_noE C 0 0 30 [(0, .ref (w.2.2.1 0)), (2, .int i1), (3, .int i2)] [.int v9] S3) ?_ ?_
        · intro v9
          refine sn_istore hO (lv' := [(4, .int v9), (0, .ref (w.2.2.1 0)), (2, .int i1), (3, .int i2)]) (by decide) rfl dX9_put1_30 ?_
          refine sn_aload_n hO 1 rfl dX9_put1_32 ?_
          refine sn_getF hO fmX9_126 atM_0 dX9_put1_33 ?_
          refine sn_iload_n hO 3 rfl dX9_put1_36 ?_
          refine sn_iload hO 0 rfl dX9_put1_37 ?_
          refine sn_jn_walk (fun (k : Int32 → Prop) => ∀ (v11 : Int32), k v11 → sn_G LoM w rmX9_put1 Qq sn_noE C 0 0 52 [(0, .ref (w.2.2.1 0)), (2, .int i1), (3, .int i2), (4, .int v9)] [.int v11, .int i2, .ref (w.2.2.1 29)] S3) ?_ ?_
          · intro v11
            refine sn_iast hO atM_29 rfl dX9_put1_52 ?_
            refine sn_nmS (fun S13 => ?_)
            refine sn_iload hO 3 rfl dX9_put1_53 ?_
            refine sn_jn_walk (fun (k : Int32 → Prop) => ∀ (v14 : Int32), k v14 → sn_G LoM w rmX9_put1 Qq sn_noE C 0 0 70 [(0, .ref (w.2.2.1 0)), (3, .int i2)] [.int v14] S13) ?_ ?_
            · intro v14
              refine sn_istore_n hO (lv' := [(2, .int v14), (0, .ref (w.2.2.1 0)), (3, .int i2)]) (by decide) rfl dX9_put1_70 ?_
              refine sn_sub [1, 0, 2] rfl ?_
              exact hk8 _ _
            · intro k15 hk15
              refine sn_if_eq hO 62 (by decide) dX9_put1_55 ?_ ?_
              · refine sn_iload_n hO 1 rfl dX9_put1_62 ?_
                refine sn_aload_n hO 0 rfl dX9_put1_63 ?_
                refine sn_getF hO fmX9_126 atM_0 dX9_put1_64 ?_
                refine sn_iload_n hO 2 rfl dX9_put1_67 ?_
                refine sn_iald hO atM_29 rfl dX9_put1_68 ?_
                refine sn_ixor hO dX9_put1_69 ?_
                refine sn_sub [0, 2] rfl ?_
                exact hk15 _
              · refine sn_iconst hO kc_0 dX9_put1_58 ?_
                refine sn_goto hO 70 (by decide) dX9_put1_59 ?_
                refine sn_sub [0, 2] rfl ?_
                exact hk15 _
          · intro k12 hk12
            refine sn_if_eq hO 46 (by decide) dX9_put1_39 ?_ ?_
            · refine sn_aload_n hO 1 rfl dX9_put1_46 ?_
              refine sn_getF hO fmX9_126 atM_0 dX9_put1_47 ?_
              refine sn_iload_n hO 3 rfl dX9_put1_50 ?_
              refine sn_iald hO atM_29 rfl dX9_put1_51 ?_
              refine sn_sub [1, 2, 3, 0] rfl ?_
              exact hk12 _
            · refine sn_iload_n hO 2 rfl dX9_put1_42 ?_
              refine sn_goto hO 52 (by decide) dX9_put1_43 ?_
              refine sn_sub [1, 2, 3, 0] rfl ?_
              exact hk12 _
        · intro k10 hk10
          refine sn_if_ne hO 29 (by decide) dX9_put1_22 ?_ ?_
          · refine sn_iconst hO kc_0 dX9_put1_29 ?_
            exact hk10 _
          · refine sn_iconst hO kc_1 dX9_put1_25 ?_
            refine sn_goto hO 30 (by decide) dX9_put1_26 ?_
            exact hk10 _
theorem ctX9_put1 {w : sn_W} {p1 : Int32} {S : sn_S} {Q : sn_S → Prop} (h : wpX9_put1 p1 S Q) : sn_Ct LoM w yX9_put1 (ws_ yX9_put1 cX9_put1 5 none) rmX9_put1 [.ref (w.2.2.1 0), .int p1] S (sn_qV Q) sn_noE := sn_Ct_of (LoM_X w) (by decide) (Nat.le_of_ble_eq_true rfl) RX9 rfl (fun C hO => wkX9_put1 hO p1 S Q h)
def rmX9_isKnown : Room := { frames := 1, cells := 0, slots := 0, locals := 21 }
/-- SnailPostModel.isKnown(I)Z -/
def wpX9_isKnown (p1 : Int32) (S : sn_S) (Q : Int32 → Prop) : Prop :=
  sn_jn (fun (v1 : Int32) => ((¬ v1 = 0 → Q 0) ∧ (v1 = 0 → Q 1))) (fun (k2 : Int32 → Prop) => sn_lp2 (fun (rc5 : Int32 → Int32 → Prop) (i3 : Int32) (i4 : Int32) => ((i4 < 0 → k2 i3) ∧ (¬ i4 < 0 → wpX9_is i3 i4 (fun (r6 : Int32) => sn_jn (fun (v7 : Int32) => sn_lt (i3 ^^^ v7) (fun x9 => rc5 x9 (i4 + (-1)))) (fun (k8 : Int32 → Prop) => ((r6 = 0 → k8 0) ∧ (¬ r6 = 0 → (vp_in i4 6 ∧ k8 (S.1 29 (i4).toNatClampNeg))))))))) p1 5)
theorem wkX9_isKnown {w : sn_W} {C : sn_C} (hO : sn_Ok LoM w C RX9 cX9_isKnown 4 (some .boolean) [] "isKnown") (p1 : Int32) (S : sn_S) (Q : Int32 → Prop) : wpX9_isKnown p1 S Q → sn_G LoM w rmX9_isKnown (sn_qI (fun r S1 => S1 = S ∧ Q r)) sn_noE C 0 0 0 [(0, .ref (w.2.2.1 0)), (1, .int p1)] [] S := by
  unfold wpX9_isKnown
  generalize hQq : (sn_qI (fun r S1 => S1 = S ∧ Q r)) = Qq
  refine sn_iload_n hO 1 rfl dX9_isKnown_0 ?_
  refine sn_istore_n hO (lv' := [(2, .int p1), (0, .ref (w.2.2.1 0)), (1, .int p1)]) (by decide) rfl dX9_isKnown_1 ?_
  refine sn_iconst hO kc_5 dX9_isKnown_2 ?_
  refine sn_istore_n hO (lv' := [(3, .int 5), (2, .int p1), (0, .ref (w.2.2.1 0)), (1, .int p1)]) (by decide) rfl dX9_isKnown_3 ?_
  refine sn_jn_walk (fun (k : Int32 → Prop) => ∀ (v1 : Int32), k v1 → sn_G LoM w rmX9_isKnown Qq sn_noE C 0 0 35 [(2, .int v1)] [] S) ?_ ?_
  · intro v1
    refine sn_iload_n hO 0 rfl dX9_isKnown_35 ?_
    refine sn_if_ne hO 43 (by decide) dX9_isKnown_36 ?_ ?_
    · refine sn_iconst hO kc_0 dX9_isKnown_43 ?_
      subst hQq
      exact fun h => sn_zret hO (ty := .boolean) rfl rfl dX9_isKnown_44 ⟨rfl, h⟩
    · refine sn_iconst hO kc_1 dX9_isKnown_39 ?_
      refine sn_goto hO 44 (by decide) dX9_isKnown_40 ?_
      subst hQq
      exact fun h => sn_zret hO (ty := .boolean) rfl rfl dX9_isKnown_44 ⟨rfl, h⟩
  · intro k2 hk2
    refine sn_sub [2, 1, 0] rfl ?_
    refine sn_lp2_walk (Gd := fun (i3 : Int32) (i4 : Int32) => sn_G LoM w rmX9_isKnown Qq sn_noE C 0 0 4 [(0, .ref (w.2.2.1 0)), (2, .int i3), (3, .int i4)] [] S) ?_ _ _
    intro rc5 hrc5 i3 i4
    refine sn_iload_n hO 2 rfl dX9_isKnown_4 ?_
    refine sn_if_lt hO 35 (by decide) dX9_isKnown_5 ?_ ?_
    · refine sn_sub [1] rfl ?_
      exact hk2 _
    · refine sn_iload_n hO 1 rfl dX9_isKnown_8 ?_
      refine sn_iload_n hO 1 rfl dX9_isKnown_9 ?_
      refine sn_iload_n hO 2 rfl dX9_isKnown_10 ?_
      refine sn_callS hO (c2 := 0) (s2 := 0) [.int i3, .int i4] csX9_435 ctX9_is ⟨Nat.le_of_ble_eq_true rfl, Nat.le_of_ble_eq_true rfl⟩ rfl rfl (Nat.le_of_ble_eq_true rfl) ⟨Nat.le_of_ble_eq_true rfl, Nat.le_of_ble_eq_true rfl, rfl, rfl⟩ dX9_isKnown_11 (sn_bIp (fun r6 => ?_)) sn_x0
      refine sn_jn_walk (fun (k : Int32 → Prop) => ∀ (v7 : Int32), k v7 → sn_G LoM w rmX9_isKnown Qq sn_noE C 0 0 27 [(0, .ref (w.2.2.1 0)), (3, .int i4)] [.int v7, .int i3] S) ?_ ?_
      · intro v7
        refine sn_ixor hO dX9_isKnown_27 ?_
        refine sn_nmI (fun x9 => ?_)
        refine sn_istore_n hO (lv' := [(2, .int x9), (0, .ref (w.2.2.1 0)), (3, .int i4)]) (by decide) rfl dX9_isKnown_28 ?_
        refine sn_iinc hO (lv' := [(3, .int (i4 + (-1))), (2, .int x9), (0, .ref (w.2.2.1 0))]) 2 rfl ki_m1 (by decide) rfl dX9_isKnown_29 ?_
        refine sn_goto hO 4 (by decide) dX9_isKnown_32 ?_
        refine sn_sub [2, 1, 0] rfl ?_
        exact hrc5 _ _
      · intro k8 hk8
        refine sn_if_eq hO 26 (by decide) dX9_isKnown_14 ?_ ?_
        · refine sn_iconst hO kc_0 dX9_isKnown_26 ?_
          refine sn_sub [0, 2] rfl ?_
          exact hk8 _
        · refine sn_aload_n hO 0 rfl dX9_isKnown_17 ?_
          refine sn_getF hO fmX9_126 atM_0 dX9_isKnown_18 ?_
          refine sn_iload_n hO 2 rfl dX9_isKnown_21 ?_
          refine sn_iald hO atM_29 rfl dX9_isKnown_22 ?_
          refine sn_goto hO 27 (by decide) dX9_isKnown_23 ?_
          refine sn_sub [0, 2] rfl ?_
          exact hk8 _
theorem ctX9_isKnown {w : sn_W} {p1 : Int32} {S : sn_S} {Q : Int32 → Prop} (h : wpX9_isKnown p1 S Q) : sn_Ct LoM w yX9_isKnown (ws_ yX9_isKnown cX9_isKnown 4 (some .boolean)) rmX9_isKnown [.ref (w.2.2.1 0), .int p1] S (sn_qI (fun r S1 => S1 = S ∧ Q r)) sn_noE := sn_Ct_of (LoM_X w) (by decide) (Nat.le_of_ble_eq_true rfl) RX9 rfl (fun C hO => wkX9_isKnown hO p1 S Q h)
def rmX9_areKnown : Room := { frames := 2, cells := 0, slots := 0, locals := 44 }
/-- SnailPostModel.areKnown(I)Z -/
def wpX9_areKnown (p1 : Int32) (S : sn_S) (Q : Int32 → Prop) : Prop :=
  sn_lp2 (fun (rc3 : Int32 → Int32 → Prop) (i1 : Int32) (i2 : Int32) => ((p1 ≤ i2 → (narrow .boolean (.int i1) = .int i1 ∧ Q i1)) ∧ (¬ p1 ≤ i2 → sn_jn (fun (v4 : Int32) => rc3 v4 (i2 + 1)) (fun (k5 : Int32 → Prop) => sn_jn (κ := Prop) (k5 0) (fun (k6 : Prop) => ((i1 = 0 → k6) ∧ (¬ i1 = 0 → wpX9_isKnown (1 <<< (i2 &&& 31)) S (fun (r7 : Int32) => ((r7 = 0 → k6) ∧ (¬ r7 = 0 → k5 1)))))))))) 1 0
theorem wkX9_areKnown {w : sn_W} {C : sn_C} (hO : sn_Ok LoM w C RX9 cX9_areKnown 4 (some .boolean) [] "areKnown") (p1 : Int32) (S : sn_S) (Q : Int32 → Prop) : wpX9_areKnown p1 S Q → sn_G LoM w rmX9_areKnown (sn_qI (fun r S1 => S1 = S ∧ Q r)) sn_noE C 0 0 0 [(0, .ref (w.2.2.1 0)), (1, .int p1)] [] S := by
  unfold wpX9_areKnown
  generalize hQq : (sn_qI (fun r S1 => S1 = S ∧ Q r)) = Qq
  refine sn_iconst hO kc_1 dX9_areKnown_0 ?_
  refine sn_istore_n hO (lv' := [(2, .int 1), (0, .ref (w.2.2.1 0)), (1, .int p1)]) (by decide) rfl dX9_areKnown_1 ?_
  refine sn_iconst hO kc_0 dX9_areKnown_2 ?_
  refine sn_istore_n hO (lv' := [(3, .int 0), (2, .int 1), (0, .ref (w.2.2.1 0)), (1, .int p1)]) (by decide) rfl dX9_areKnown_3 ?_
  refine sn_sub [2, 3, 1, 0] rfl ?_
  refine sn_lp2_walk (Gd := fun (i1 : Int32) (i2 : Int32) => sn_G LoM w rmX9_areKnown Qq sn_noE C 0 0 4 [(0, .ref (w.2.2.1 0)), (1, .int p1), (2, .int i1), (3, .int i2)] [] S) ?_ _ _
  intro rc3 hrc3 i1 i2
  refine sn_iload_n hO 3 rfl dX9_areKnown_4 ?_
  refine sn_iload_n hO 1 rfl dX9_areKnown_5 ?_
  refine sn_icmp_ge hO 35 (by decide) dX9_areKnown_6 ?_ ?_
  · refine sn_iload_n hO 2 rfl dX9_areKnown_35 ?_
    subst hQq
    exact fun h => sn_zretP hO rfl dX9_areKnown_36 ⟨h.1, rfl, h.2⟩
  · refine sn_iload_n hO 2 rfl dX9_areKnown_9 ?_
    refine sn_jn_walk (fun (k : Int32 → Prop) => ∀ (v4 : Int32), k v4 → sn_G LoM w rmX9_areKnown Qq sn_noE C 0 0 28 [(0, .ref (w.2.2.1 0)), (1, .int p1), (3, .int i2)] [.int v4] S) ?_ ?_
    · intro v4
      refine sn_istore_n hO (lv' := [(2, .int v4), (0, .ref (w.2.2.1 0)), (1, .int p1), (3, .int i2)]) (by decide) rfl dX9_areKnown_28 ?_
      refine sn_iinc hO (lv' := [(3, .int (i2 + 1)), (2, .int v4), (0, .ref (w.2.2.1 0)), (1, .int p1)]) 3 rfl ki_1 (by decide) rfl dX9_areKnown_29 ?_
      refine sn_goto hO 4 (by decide) dX9_areKnown_32 ?_
      refine sn_sub [2, 3, 1, 0] rfl ?_
      exact hrc3 _ _
    · intro k5 hk5
      refine sn_jn_walk (fun (k : Prop) => k → sn_G LoM w rmX9_areKnown Qq sn_noE C 0 0 27 [(0, .ref (w.2.2.1 0)), (1, .int p1), (3, .int i2)] [] S) ?_ ?_
      · refine sn_iconst hO kc_0 dX9_areKnown_27 ?_
        exact hk5 _
      · intro k6 hk6
        refine sn_if_eq hO 27 (by decide) dX9_areKnown_10 ?_ ?_
        · refine sn_sub [0, 1, 3] rfl ?_
          exact hk6
        · refine sn_aload_n hO 0 rfl dX9_areKnown_13 ?_
          refine sn_iconst hO kc_1 dX9_areKnown_14 ?_
          refine sn_iload_n hO 3 rfl dX9_areKnown_15 ?_
          refine sn_ishl hO dX9_areKnown_16 ?_
          refine sn_callV hO (c2 := 0) (s2 := 0) [.int (1 <<< (i2 &&& 31))] cvX9_457 (fun _ => sn_Rv_K atM_0) ctX9_isKnown ⟨Nat.le_of_ble_eq_true rfl, Nat.le_of_ble_eq_true rfl⟩ rfl rfl (Nat.le_of_ble_eq_true rfl) ⟨Nat.le_of_ble_eq_true rfl, Nat.le_of_ble_eq_true rfl, rfl, rfl⟩ dX9_areKnown_17 (sn_bIp (fun r7 => ?_)) sn_x0
          refine sn_if_eq hO 27 (by decide) dX9_areKnown_20 ?_ ?_
          · refine sn_sub [0, 1, 3] rfl ?_
            exact hk6
          · refine sn_iconst hO kc_1 dX9_areKnown_23 ?_
            refine sn_goto hO 28 (by decide) dX9_areKnown_24 ?_
            refine sn_sub [0, 1, 3] rfl ?_
            exact hk5 _
theorem ctX9_areKnown {w : sn_W} {p1 : Int32} {S : sn_S} {Q : Int32 → Prop} (h : wpX9_areKnown p1 S Q) : sn_Ct LoM w yX9_areKnown (ws_ yX9_areKnown cX9_areKnown 4 (some .boolean)) rmX9_areKnown [.ref (w.2.2.1 0), .int p1] S (sn_qI (fun r S1 => S1 = S ∧ Q r)) sn_noE := sn_Ct_of (LoM_X w) (by decide) (Nat.le_of_ble_eq_true rfl) RX9 rfl (fun C hO => wkX9_areKnown hO p1 S Q h)
def rmX9_isRead : Room := { frames := 3, cells := 0, slots := 0, locals := 67 }
/-- SnailPostModel.isRead(I)Z -/
def wpX9_isRead (p1 : Int32) (S : sn_S) (Q : Int32 → sn_S → Prop) : Prop :=
  wpX9_noSteps S (fun (S1 : sn_S) => sn_jn (fun (S2 : sn_S) => (vp_in 5 5680 ∧ wpX9_areKnown (S2.1 2 (5 : Int32).toNatClampNeg) S2 (fun (r4 : Int32) => (narrow .boolean (.int r4) = .int r4 ∧ Q r4 S2)))) (fun (k3 : sn_S → Prop) => sn_lp2 (fun (rc7 : Int32 → sn_S → Prop) (i5 : Int32) (S6 : sn_S) => (vp_in 0 5680 ∧ (((S6.1 2 (0 : Int32).toNatClampNeg) ≤ i5 → k3 S6) ∧ (¬ (S6.1 2 (0 : Int32).toNatClampNeg) ≤ i5 → wpX9_is p1 i5 (fun (r8 : Int32) => sn_jn (fun (S9 : sn_S) => rc7 (i5 + 1) S9) (fun (k10 : sn_S → Prop) => ((r8 = 0 → k10 S6) ∧ (¬ r8 = 0 → wpX9_ofSnail i5 5 S6 (fun (r11 : Int32) => wpX9_put1 r11 S6 (fun (S12 : sn_S) => k10 S12)))))))))) 0 S1))
theorem wkX9_isRead {w : sn_W} {C : sn_C} (hO : sn_Ok LoM w C RX9 cX9_isRead 3 (some .boolean) [] "isRead") (p1 : Int32) (S : sn_S) (Q : Int32 → sn_S → Prop) : wpX9_isRead p1 S Q → sn_G LoM w rmX9_isRead (sn_qI Q) sn_noE C 0 0 0 [(0, .ref (w.2.2.1 0)), (1, .int p1)] [] S := by
  unfold wpX9_isRead
  generalize hQq : (sn_qI Q) = Qq
  refine sn_aload_n hO 0 rfl dX9_isRead_0 ?_
  refine sn_callV hO (c2 := 0) (s2 := 0) [] cvX9_448 (fun _ => sn_Rv_K atM_0) ctX9_noSteps ⟨Nat.le_of_ble_eq_true rfl, Nat.le_of_ble_eq_true rfl⟩ rfl rfl (Nat.le_of_ble_eq_true rfl) ⟨Nat.le_of_ble_eq_true rfl, Nat.le_of_ble_eq_true rfl, rfl, rfl⟩ dX9_isRead_1 (sn_bV (fun S1 => ?_)) sn_x0
  refine sn_iconst hO kc_0 dX9_isRead_4 ?_
  refine sn_istore_n hO (lv' := [(2, .int 0), (0, .ref (w.2.2.1 0)), (1, .int p1)]) (by decide) rfl dX9_isRead_5 ?_
  refine sn_jn_walk (fun (k : sn_S → Prop) => ∀ (S2 : sn_S), k S2 → sn_G LoM w rmX9_isRead Qq sn_noE C 0 0 40 [(0, .ref (w.2.2.1 0))] [] S2) ?_ ?_
  · intro S2
    refine sn_aload_n hO 0 rfl dX9_isRead_40 ?_
    refine sn_aload_n hO 0 rfl dX9_isRead_41 ?_
    refine sn_getF hO fmX9_13 atM_0 dX9_isRead_42 ?_
    refine sn_iconst hO kc_5 dX9_isRead_45 ?_
    refine sn_iald hO atM_2 rfl dX9_isRead_46 ?_
    refine sn_callV hO (c2 := 0) (s2 := 0) [.int (S2.1 2 (5 : Int32).toNatClampNeg)] cvX9_454 (fun _ => sn_Rv_K atM_0) ctX9_areKnown ⟨Nat.le_of_ble_eq_true rfl, Nat.le_of_ble_eq_true rfl⟩ rfl rfl (Nat.le_of_ble_eq_true rfl) ⟨Nat.le_of_ble_eq_true rfl, Nat.le_of_ble_eq_true rfl, rfl, rfl⟩ dX9_isRead_47 (sn_bIp (fun r4 => ?_)) sn_x0
    subst hQq
    exact sn_zretP hO rfl dX9_isRead_50
  · intro k3 hk3
    refine sn_sub [1, 2, 0] rfl ?_
    refine sn_lp2_walk (Gd := fun (i5 : Int32) (S6 : sn_S) => sn_G LoM w rmX9_isRead Qq sn_noE C 0 0 6 [(0, .ref (w.2.2.1 0)), (1, .int p1), (2, .int i5)] [] S6) ?_ _ _
    intro rc7 hrc7 i5 S6
    refine sn_iload_n hO 2 rfl dX9_isRead_6 ?_
    refine sn_aload_n hO 0 rfl dX9_isRead_7 ?_
    refine sn_getF hO fmX9_13 atM_0 dX9_isRead_8 ?_
    refine sn_iconst hO kc_0 dX9_isRead_11 ?_
    refine sn_iald hO atM_2 rfl dX9_isRead_12 ?_
    refine sn_icmp_ge hO 40 (by decide) dX9_isRead_13 ?_ ?_
    · refine sn_sub [0] rfl ?_
      exact hk3 _
    · refine sn_iload_n hO 1 rfl dX9_isRead_16 ?_
      refine sn_iload_n hO 2 rfl dX9_isRead_17 ?_
      refine sn_callS hO (c2 := 0) (s2 := 0) [.int p1, .int i5] csX9_435 ctX9_is ⟨Nat.le_of_ble_eq_true rfl, Nat.le_of_ble_eq_true rfl⟩ rfl rfl (Nat.le_of_ble_eq_true rfl) ⟨Nat.le_of_ble_eq_true rfl, Nat.le_of_ble_eq_true rfl, rfl, rfl⟩ dX9_isRead_18 (sn_bIp (fun r8 => ?_)) sn_x0
      refine sn_jn_walk (fun (k : sn_S → Prop) => ∀ (S9 : sn_S), k S9 → sn_G LoM w rmX9_isRead Qq sn_noE C 0 0 34 [(0, .ref (w.2.2.1 0)), (1, .int p1), (2, .int i5)] [] S9) ?_ ?_
      · intro S9
        refine sn_iinc hO (lv' := [(2, .int (i5 + 1)), (0, .ref (w.2.2.1 0)), (1, .int p1)]) 2 rfl ki_1 (by decide) rfl dX9_isRead_34 ?_
        refine sn_goto hO 6 (by decide) dX9_isRead_37 ?_
        refine sn_sub [1, 2, 0] rfl ?_
        exact hrc7 _ _
      · intro k10 hk10
        refine sn_if_eq hO 34 (by decide) dX9_isRead_21 ?_ ?_
        · exact hk10 _
        · refine sn_aload_n hO 0 rfl dX9_isRead_24 ?_
          refine sn_aload_n hO 0 rfl dX9_isRead_25 ?_
          refine sn_iload_n hO 2 rfl dX9_isRead_26 ?_
          refine sn_iconst hO kc_5 dX9_isRead_27 ?_
          refine sn_callV hO (c2 := 0) (s2 := 0) [.int i5, .int 5] cvX9_169 (fun _ => sn_Rv_K atM_0) ctX9_ofSnail ⟨Nat.le_of_ble_eq_true rfl, Nat.le_of_ble_eq_true rfl⟩ rfl rfl (Nat.le_of_ble_eq_true rfl) ⟨Nat.le_of_ble_eq_true rfl, Nat.le_of_ble_eq_true rfl, rfl, rfl⟩ dX9_isRead_28 (sn_bIp (fun r11 => ?_)) sn_x0
          refine sn_callV hO (c2 := 0) (s2 := 0) [.int r11] cvX9_451 (fun _ => sn_Rv_K atM_0) ctX9_put1 ⟨Nat.le_of_ble_eq_true rfl, Nat.le_of_ble_eq_true rfl⟩ rfl rfl (Nat.le_of_ble_eq_true rfl) ⟨Nat.le_of_ble_eq_true rfl, Nat.le_of_ble_eq_true rfl, rfl, rfl⟩ dX9_isRead_31 (sn_bV (fun S12 => ?_)) sn_x0
          exact hk10 _
theorem ctX9_isRead {w : sn_W} {p1 : Int32} {S : sn_S} {Q : Int32 → sn_S → Prop} (h : wpX9_isRead p1 S Q) : sn_Ct LoM w yX9_isRead (ws_ yX9_isRead cX9_isRead 3 (some .boolean)) rmX9_isRead [.ref (w.2.2.1 0), .int p1] S (sn_qI Q) sn_noE := sn_Ct_of (LoM_X w) (by decide) (Nat.le_of_ble_eq_true rfl) RX9 rfl (fun C hO => wkX9_isRead hO p1 S Q h)
def rmX9_read : Room := { frames := 4, cells := 0, slots := 0, locals := 89 }
/-- SnailPostModel.read(I)I -/
def wpX9_read (p1 : Int32) (S : sn_S) (Q : Int32 → sn_S → Prop) : Prop :=
  sn_lt (sn_pI S 0 0 0) (fun S1 => wpX9_allSnails S1 (fun (r2 : Int32) => wpX9_in (Int32.toInt64 p1) 0 (Int32.toInt64 r2) (fun (r3 : Int32) => ((¬ r3 = 0 → wpX9_isRead p1 S1 (fun (r4 : Int32) (S5 : sn_S) => ((r4 = 0 → Q 0 S5) ∧ (¬ r4 = 0 → Q 1 S5)))) ∧ (r3 = 0 → Q (-1) S1)))))
theorem wkX9_read {w : sn_W} {C : sn_C} (hO : sn_Ok LoM w C RX9 cX9_read 2 (some .int) [] "read") (p1 : Int32) (S : sn_S) (Q : Int32 → sn_S → Prop) : wpX9_read p1 S Q → sn_G LoM w rmX9_read (sn_qI Q) sn_noE C 0 0 0 [(0, .ref (w.2.2.1 0)), (1, .int p1)] [] S := by
  unfold wpX9_read
  generalize hQq : (sn_qI Q) = Qq
  refine sn_aload_n hO 0 rfl dX9_read_0 ?_
  refine sn_iconst hO kc_0 dX9_read_1 ?_
  refine sn_putI hO fmX9_150 atM_0 rfl rfl dX9_read_2 ?_
  refine sn_nmS (fun S1 => ?_)
  refine sn_iload_n hO 1 rfl dX9_read_5 ?_
  refine sn_i2l hO dX9_read_6 ?_
  refine sn_lconst hO (v := 0) rfl dX9_read_7 ?_
  refine sn_aload_n hO 0 rfl dX9_read_8 ?_
  refine sn_callV hO (c2 := 0) (s2 := 0) [] cvX9_460 (fun _ => sn_Rv_K atM_0) ctX9_allSnails ⟨Nat.le_of_ble_eq_true rfl, Nat.le_of_ble_eq_true rfl⟩ rfl rfl (Nat.le_of_ble_eq_true rfl) ⟨Nat.le_of_ble_eq_true rfl, Nat.le_of_ble_eq_true rfl, rfl, rfl⟩ dX9_read_9 (sn_bIp (fun r2 => ?_)) sn_x0
  refine sn_i2l hO dX9_read_12 ?_
  refine sn_callS hO (c2 := 0) (s2 := 0) [.long (Int32.toInt64 p1), .long 0, .long (Int32.toInt64 r2)] csX9_160 ctX9_in ⟨Nat.le_of_ble_eq_true rfl, Nat.le_of_ble_eq_true rfl⟩ rfl rfl (Nat.le_of_ble_eq_true rfl) ⟨Nat.le_of_ble_eq_true rfl, Nat.le_of_ble_eq_true rfl, rfl, rfl⟩ dX9_read_13 (sn_bIp (fun r3 => ?_)) sn_x0
  refine sn_if_ne hO 23 (by decide) dX9_read_16 ?_ ?_
  · refine sn_aload_n hO 0 rfl dX9_read_23 ?_
    refine sn_iload_n hO 1 rfl dX9_read_24 ?_
    refine sn_callV hO (c2 := 0) (s2 := 0) [.int p1] cvX9_463 (fun _ => sn_Rv_K atM_0) ctX9_isRead ⟨Nat.le_of_ble_eq_true rfl, Nat.le_of_ble_eq_true rfl⟩ rfl rfl (Nat.le_of_ble_eq_true rfl) ⟨Nat.le_of_ble_eq_true rfl, Nat.le_of_ble_eq_true rfl, rfl, rfl⟩ dX9_read_25 (sn_bI (fun r4 S5 => ?_)) sn_x0
    refine sn_if_eq hO 35 (by decide) dX9_read_28 ?_ ?_
    · refine sn_iconst hO kc_0 dX9_read_35 ?_
      subst hQq
      exact sn_iret hO rfl dX9_read_36
    · refine sn_iconst hO kc_1 dX9_read_31 ?_
      refine sn_goto hO 36 (by decide) dX9_read_32 ?_
      subst hQq
      exact sn_iret hO rfl dX9_read_36
  · refine sn_iconst hO kc_m1 dX9_read_19 ?_
    refine sn_goto hO 36 (by decide) dX9_read_20 ?_
    subst hQq
    exact sn_iret hO rfl dX9_read_36
theorem ctX9_read {w : sn_W} {p1 : Int32} {S : sn_S} {Q : Int32 → sn_S → Prop} (h : wpX9_read p1 S Q) : sn_Ct LoM w yX9_read (ws_ yX9_read cX9_read 2 (some .int)) rmX9_read [.ref (w.2.2.1 0), .int p1] S (sn_qI Q) sn_noE := sn_Ct_of (LoM_X w) (by decide) (Nat.le_of_ble_eq_true rfl) RX9 rfl (fun C hO => wkX9_read hO p1 S Q h)
def rmX9_safe : Room := { frames := 4, cells := 0, slots := 0, locals := 89 }
/-- SnailPostModel.safe()I -/
def wpX9_safe (S : sn_S) (Q : Int32 → sn_S → Prop) : Prop :=
  sn_lt (sn_pI S 0 0 0) (fun S1 => sn_lp3 (fun (rc5 : Int32 → Int32 → sn_S → Prop) (i2 : Int32) (i3 : Int32) (S4 : sn_S) => wpX9_allSnails S4 (fun (r6 : Int32) => ((r6 < i3 → Q (i2 - 1) S4) ∧ (¬ r6 < i3 → wpX9_bits i3 (fun (r7 : Int32) => sn_jn (fun (v8 : Int32) (S9 : sn_S) => rc5 v8 (i3 + 1) S9) (fun (k10 : Int32 → sn_S → Prop) => sn_jn (fun (S11 : sn_S) => k10 i2 S11) (fun (k12 : sn_S → Prop) => ((i2 ≤ r7 → k12 S4) ∧ (¬ i2 ≤ r7 → wpX9_allSnails S4 (fun (r13 : Int32) => wpX9_isRead (r13 &&& (i3 ^^^ (-1))) S4 (fun (r14 : Int32) (S15 : sn_S) => ((¬ r14 = 0 → k12 S15) ∧ (r14 = 0 → k10 r7 S15))))))))))))) 7 0 S1)
theorem wkX9_safe {w : sn_W} {C : sn_C} (hO : sn_Ok LoM w C RX9 cX9_safe 4 (some .int) [] "safe") (S : sn_S) (Q : Int32 → sn_S → Prop) : wpX9_safe S Q → sn_G LoM w rmX9_safe (sn_qI Q) sn_noE C 0 0 0 [(0, .ref (w.2.2.1 0))] [] S := by
  unfold wpX9_safe
  generalize hQq : (sn_qI Q) = Qq
  refine sn_aload_n hO 0 rfl dX9_safe_0 ?_
  refine sn_iconst hO kc_0 dX9_safe_1 ?_
  refine sn_putI hO fmX9_150 atM_0 rfl rfl dX9_safe_2 ?_
  refine sn_nmS (fun S1 => ?_)
  refine sn_bipush hO kb_7 dX9_safe_5 ?_
  refine sn_istore_n hO (lv' := [(1, .int 7), (0, .ref (w.2.2.1 0))]) (by decide) rfl dX9_safe_7 ?_
  refine sn_iconst hO kc_0 dX9_safe_8 ?_
  refine sn_istore_n hO (lv' := [(2, .int 0), (1, .int 7), (0, .ref (w.2.2.1 0))]) (by decide) rfl dX9_safe_9 ?_
  refine sn_sub [2, 1, 0] rfl ?_
  refine sn_lp3_walk (Gd := fun (i2 : Int32) (i3 : Int32) (S4 : sn_S) => sn_G LoM w rmX9_safe Qq sn_noE C 0 0 10 [(0, .ref (w.2.2.1 0)), (1, .int i2), (2, .int i3)] [] S4) ?_ _ _ _
  intro rc5 hrc5 i2 i3 S4
  refine sn_iload_n hO 2 rfl dX9_safe_10 ?_
  refine sn_aload_n hO 0 rfl dX9_safe_11 ?_
  refine sn_callV hO (c2 := 0) (s2 := 0) [] cvX9_460 (fun _ => sn_Rv_K atM_0) ctX9_allSnails ⟨Nat.le_of_ble_eq_true rfl, Nat.le_of_ble_eq_true rfl⟩ rfl rfl (Nat.le_of_ble_eq_true rfl) ⟨Nat.le_of_ble_eq_true rfl, Nat.le_of_ble_eq_true rfl, rfl, rfl⟩ dX9_safe_12 (sn_bIp (fun r6 => ?_)) sn_x0
  refine sn_icmp_gt hO 55 (by decide) dX9_safe_15 ?_ ?_
  · refine sn_iload_n hO 1 rfl dX9_safe_55 ?_
    refine sn_iconst hO kc_1 dX9_safe_56 ?_
    refine sn_isub hO dX9_safe_57 ?_
    subst hQq
    exact sn_iret hO rfl dX9_safe_58
  · refine sn_iload_n hO 2 rfl dX9_safe_18 ?_
    refine sn_callS hO (c2 := 0) (s2 := 0) [.int i3] csX9_379 ctX9_bits ⟨Nat.le_of_ble_eq_true rfl, Nat.le_of_ble_eq_true rfl⟩ rfl rfl (Nat.le_of_ble_eq_true rfl) ⟨Nat.le_of_ble_eq_true rfl, Nat.le_of_ble_eq_true rfl, rfl, rfl⟩ dX9_safe_19 (sn_bIp (fun r7 => ?_)) sn_x0
    refine sn_istore_n hO (lv' := [(3, .int r7), (0, .ref (w.2.2.1 0)), (1, .int i2), (2, .int i3)]) (by decide) rfl dX9_safe_22 ?_
    refine sn_iload_n hO 0 rfl dX9_safe_23 ?_
    refine sn_iload_n hO 2 rfl dX9_safe_24 ?_
    refine sn_jn_walk (fun (k : Int32 → sn_S → Prop) => ∀ (v8 : Int32) (S9 : sn_S), k v8 S9 → sn_G LoM w rmX9_safe Qq sn_noE C 0 0 48 [(0, .ref (w.2.2.1 0)), (2, .int i3)] [.int v8] S9) ?_ ?_
    · intro v8 S9
      refine sn_istore_n hO (lv' := [(1, .int v8), (0, .ref (w.2.2.1 0)), (2, .int i3)]) (by decide) rfl dX9_safe_48 ?_
      refine sn_iinc hO (lv' := [(2, .int (i3 + 1)), (1, .int v8), (0, .ref (w.2.2.1 0))]) 2 rfl ki_1 (by decide) rfl dX9_safe_49 ?_
      refine sn_goto hO 10 (by decide) dX9_safe_52 ?_
      refine sn_sub [2, 1, 0] rfl ?_
      exact hrc5 _ _ _
    · intro k10 hk10
      refine sn_jn_walk (fun (k : sn_S → Prop) => ∀ (S11 : sn_S), k S11 → sn_G LoM w rmX9_safe Qq sn_noE C 0 0 47 [(0, .ref (w.2.2.1 0)), (1, .int i2), (2, .int i3)] [] S11) ?_ ?_
      · intro S11
        refine sn_iload_n hO 1 rfl dX9_safe_47 ?_
        refine sn_sub [0, 2] rfl ?_
        exact hk10 _ _
      · intro k12 hk12
        refine sn_icmp_ge hO 47 (by decide) dX9_safe_25 ?_ ?_
        · refine sn_sub [1, 2, 3] rfl ?_
          exact hk12 _
        · refine sn_aload_n hO 1 rfl dX9_safe_28 ?_
          refine sn_aload_n hO 1 rfl dX9_safe_29 ?_
          refine sn_callV hO (c2 := 0) (s2 := 0) [] cvX9_460 (fun _ => sn_Rv_K atM_0) ctX9_allSnails ⟨Nat.le_of_ble_eq_true rfl, Nat.le_of_ble_eq_true rfl⟩ rfl rfl (Nat.le_of_ble_eq_true rfl) ⟨Nat.le_of_ble_eq_true rfl, Nat.le_of_ble_eq_true rfl, rfl, rfl⟩ dX9_safe_30 (sn_bIp (fun r13 => ?_)) sn_x0
          refine sn_iload_n hO 3 rfl dX9_safe_33 ?_
          refine sn_iconst hO kc_m1 dX9_safe_34 ?_
          refine sn_ixor hO dX9_safe_35 ?_
          refine sn_iand hO dX9_safe_36 ?_
          refine sn_callV hO (c2 := 0) (s2 := 0) [.int (r13 &&& (i3 ^^^ (-1)))] cvX9_463 (fun _ => sn_Rv_K atM_0) ctX9_isRead ⟨Nat.le_of_ble_eq_true rfl, Nat.le_of_ble_eq_true rfl⟩ rfl rfl (Nat.le_of_ble_eq_true rfl) ⟨Nat.le_of_ble_eq_true rfl, Nat.le_of_ble_eq_true rfl, rfl, rfl⟩ dX9_safe_37 (sn_bI (fun r14 S15 => ?_)) sn_x0
          refine sn_if_ne hO 47 (by decide) dX9_safe_40 ?_ ?_
          · refine sn_sub [1, 2, 3] rfl ?_
            exact hk12 _
          · refine sn_iload_n hO 0 rfl dX9_safe_43 ?_
            refine sn_goto hO 48 (by decide) dX9_safe_44 ?_
            refine sn_sub [1, 3] rfl ?_
            exact hk10 _ _
theorem ctX9_safe {w : sn_W} {S : sn_S} {Q : Int32 → sn_S → Prop} (h : wpX9_safe S Q) : sn_Ct LoM w yX9_safe (ws_ yX9_safe cX9_safe 4 (some .int)) rmX9_safe [.ref (w.2.2.1 0)] S (sn_qI Q) sn_noE := sn_Ct_of (LoM_X w) (by decide) (Nat.le_of_ble_eq_true rfl) RX9 rfl (fun C hO => wkX9_safe hO S Q h)
def rmX9_oddsOf : Room := { frames := 4, cells := 0, slots := 0, locals := 89 }
/-- SnailPostModel.oddsOf(I)J -/
def wpX9_oddsOf (p1 : Int32) (S : sn_S) (Q : Int64 → sn_S → Prop) : Prop :=
  sn_lp3 (fun (rc4 : Int64 → Int32 → sn_S → Prop) (i1 : Int64) (i2 : Int32) (S3 : sn_S) => wpX9_allSnails S3 (fun (r5 : Int32) => ((r5 < i2 → Q i1 S3) ∧ (¬ r5 < i2 → sn_jn (fun (v6 : Int64) (S7 : sn_S) => rc4 v6 (i2 + 1) S7) (fun (k8 : Int64 → sn_S → Prop) => ((¬ (i2 &&& (p1 ^^^ (-1))) = 0 → k8 i1 S3) ∧ ((i2 &&& (p1 ^^^ (-1))) = 0 → wpX9_isRead i2 S3 (fun (r9 : Int32) (S10 : sn_S) => ((r9 = 0 → k8 i1 S10) ∧ (¬ r9 = 0 → sn_jn (fun (v11 : Int64) => sn_lt (i1 + v11) (fun x13 => k8 x13 S10)) (fun (k12 : Int64 → Prop) => sn_lp2 (fun (rc16 : Int64 → Int32 → Prop) (i14 : Int64) (i15 : Int32) => (vp_in 0 5680 ∧ (((S10.1 2 (0 : Int32).toNatClampNeg) ≤ i15 → k12 i14) ∧ (¬ (S10.1 2 (0 : Int32).toNatClampNeg) ≤ i15 → wpX9_ofSnail i15 4 S10 (fun (r17 : Int32) => wpX9_is p1 i15 (fun (r18 : Int32) => sn_jn (fun (v19 : Int64) => sn_lt (i14 * v19) (fun x21 => rc16 x21 (i15 + 1))) (fun (k20 : Int64 → Prop) => ((¬ r18 = 0 → wpX9_is i2 i15 (fun (r22 : Int32) => ((r22 = 0 → k20 (Int32.toInt64 r17)) ∧ (¬ r22 = 0 → k20 (Int32.toInt64 (100 - r17)))))) ∧ (r18 = 0 → k20 100))))))))) 1 0))))))))))) 0 0 S
theorem wkX9_oddsOf {w : sn_W} {C : sn_C} (hO : sn_Ok LoM w C RX9 cX9_oddsOf 9 (some .long) [] "oddsOf") (p1 : Int32) (S : sn_S) (Q : Int64 → sn_S → Prop) : wpX9_oddsOf p1 S Q → sn_G LoM w rmX9_oddsOf (sn_qL Q) sn_noE C 0 0 0 [(0, .ref (w.2.2.1 0)), (1, .int p1)] [] S := by
  unfold wpX9_oddsOf
  generalize hQq : (sn_qL Q) = Qq
  refine sn_lconst hO (v := 0) rfl dX9_oddsOf_0 ?_
  refine sn_lstore_n hO (lv' := [(2, .long 0), (0, .ref (w.2.2.1 0)), (1, .int p1)]) (by decide) rfl dX9_oddsOf_1 ?_
  refine sn_iconst hO kc_0 dX9_oddsOf_2 ?_
  refine sn_istore hO (lv' := [(4, .int 0), (2, .long 0), (0, .ref (w.2.2.1 0)), (1, .int p1)]) (by decide) rfl dX9_oddsOf_3 ?_
  refine sn_sub [2, 3, 1, 0] rfl ?_
  refine sn_lp3_walk (Gd := fun (i1 : Int64) (i2 : Int32) (S3 : sn_S) => sn_G LoM w rmX9_oddsOf Qq sn_noE C 0 0 5 [(0, .ref (w.2.2.1 0)), (1, .int p1), (2, .long i1), (4, .int i2)] [] S3) ?_ _ _ _
  intro rc4 hrc4 i1 i2 S3
  refine sn_iload hO 3 rfl dX9_oddsOf_5 ?_
  refine sn_aload_n hO 0 rfl dX9_oddsOf_7 ?_
  refine sn_callV hO (c2 := 0) (s2 := 0) [] cvX9_460 (fun _ => sn_Rv_K atM_0) ctX9_allSnails ⟨Nat.le_of_ble_eq_true rfl, Nat.le_of_ble_eq_true rfl⟩ rfl rfl (Nat.le_of_ble_eq_true rfl) ⟨Nat.le_of_ble_eq_true rfl, Nat.le_of_ble_eq_true rfl, rfl, rfl⟩ dX9_oddsOf_8 (sn_bIp (fun r5 => ?_)) sn_x0
  refine sn_icmp_gt hO 117 (by decide) dX9_oddsOf_11 ?_ ?_
  · refine sn_lload_n hO 2 rfl dX9_oddsOf_117 ?_
    subst hQq
    exact sn_lret hO rfl dX9_oddsOf_118
  · refine sn_iload hO 3 rfl dX9_oddsOf_14 ?_
    refine sn_iload_n hO 1 rfl dX9_oddsOf_16 ?_
    refine sn_iconst hO kc_m1 dX9_oddsOf_17 ?_
    refine sn_ixor hO dX9_oddsOf_18 ?_
    refine sn_iand hO dX9_oddsOf_19 ?_
    refine sn_jn_walk (fun (k : Int64 → sn_S → Prop) => ∀ (v6 : Int64) (S7 : sn_S), k v6 S7 → sn_G LoM w rmX9_oddsOf Qq sn_noE C 0 0 111 [(0, .ref (w.2.2.1 0)), (1, .int p1), (2, .long v6), (4, .int i2)] [] S7) ?_ ?_
    · intro v6 S7
      refine sn_iinc hO (lv' := [(4, .int (i2 + 1)), (0, .ref (w.2.2.1 0)), (1, .int p1), (2, .long v6)]) 3 rfl ki_1 (by decide) rfl dX9_oddsOf_111 ?_
      refine sn_goto hO 5 (by decide) dX9_oddsOf_114 ?_
      refine sn_sub [1, 2, 3, 0] rfl ?_
      exact hrc4 _ _ _
    · intro k8 hk8
      refine sn_if_ne hO 111 (by decide) dX9_oddsOf_20 ?_ ?_
      · exact hk8 _ _
      · refine sn_aload_n hO 0 rfl dX9_oddsOf_23 ?_
        refine sn_iload hO 3 rfl dX9_oddsOf_24 ?_
        refine sn_callV hO (c2 := 0) (s2 := 0) [.int i2] cvX9_463 (fun _ => sn_Rv_K atM_0) ctX9_isRead ⟨Nat.le_of_ble_eq_true rfl, Nat.le_of_ble_eq_true rfl⟩ rfl rfl (Nat.le_of_ble_eq_true rfl) ⟨Nat.le_of_ble_eq_true rfl, Nat.le_of_ble_eq_true rfl, rfl, rfl⟩ dX9_oddsOf_26 (sn_bI (fun r9 S10 => ?_)) sn_x0
        refine sn_if_eq hO 111 (by decide) dX9_oddsOf_29 ?_ ?_
        · exact hk8 _ _
        · refine sn_lconst hO (v := 1) rfl dX9_oddsOf_32 ?_
          refine sn_lstore hO (lv' := [(5, .long 1), (0, .ref (w.2.2.1 0)), (1, .int p1), (2, .long i1), (4, .int i2)]) (by decide) rfl dX9_oddsOf_33 ?_
          refine sn_iconst hO kc_0 dX9_oddsOf_35 ?_
          refine sn_istore hO (lv' := [(7, .int 0), (5, .long 1), (0, .ref (w.2.2.1 0)), (1, .int p1), (2, .long i1), (4, .int i2)]) (by decide) rfl dX9_oddsOf_36 ?_
          refine sn_jn_walk (fun (k : Int64 → Prop) => ∀ (v11 : Int64), k v11 → sn_G LoM w rmX9_oddsOf Qq sn_noE C 0 0 106 [(0, .ref (w.2.2.1 0)), (1, .int p1), (2, .long i1), (4, .int i2), (5, .long v11)] [] S10) ?_ ?_
          · intro v11
            refine sn_lload_n hO 2 rfl dX9_oddsOf_106 ?_
            refine sn_lload hO 4 rfl dX9_oddsOf_107 ?_
            refine sn_ladd hO dX9_oddsOf_109 ?_
            refine sn_nmL (fun x13 => ?_)
            refine sn_lstore_n hO (lv' := [(2, .long x13), (0, .ref (w.2.2.1 0)), (1, .int p1), (4, .int i2), (5, .long v11)]) (by decide) rfl dX9_oddsOf_110 ?_
            refine sn_sub [1, 2, 0, 3] rfl ?_
            exact hk8 _ _
          · intro k12 hk12
            refine sn_sub [2, 3, 4, 5, 1, 0] rfl ?_
            refine sn_lp2_walk (Gd := fun (i14 : Int64) (i15 : Int32) => sn_G LoM w rmX9_oddsOf Qq sn_noE C 0 0 38 [(0, .ref (w.2.2.1 0)), (1, .int p1), (2, .long i1), (4, .int i2), (5, .long i14), (7, .int i15)] [] S10) ?_ _ _
            intro rc16 hrc16 i14 i15
            refine sn_iload hO 5 rfl dX9_oddsOf_38 ?_
            refine sn_aload_n hO 0 rfl dX9_oddsOf_40 ?_
            refine sn_getF hO fmX9_13 atM_0 dX9_oddsOf_41 ?_
            refine sn_iconst hO kc_0 dX9_oddsOf_44 ?_
            refine sn_iald hO atM_2 rfl dX9_oddsOf_45 ?_
            refine sn_icmp_ge hO 106 (by decide) dX9_oddsOf_46 ?_ ?_
            · refine sn_sub [0, 1, 2, 3, 4] rfl ?_
              exact hk12 _
            · refine sn_aload_n hO 0 rfl dX9_oddsOf_49 ?_
              refine sn_iload hO 5 rfl dX9_oddsOf_50 ?_
              refine sn_iconst hO kc_4 dX9_oddsOf_52 ?_
              refine sn_callV hO (c2 := 0) (s2 := 0) [.int i15, .int 4] cvX9_169 (fun _ => sn_Rv_K atM_0) ctX9_ofSnail ⟨Nat.le_of_ble_eq_true rfl, Nat.le_of_ble_eq_true rfl⟩ rfl rfl (Nat.le_of_ble_eq_true rfl) ⟨Nat.le_of_ble_eq_true rfl, Nat.le_of_ble_eq_true rfl, rfl, rfl⟩ dX9_oddsOf_53 (sn_bIp (fun r17 => ?_)) sn_x0
              refine sn_istore hO (lv' := [(8, .int r17), (0, .ref (w.2.2.1 0)), (1, .int p1), (2, .long i1), (4, .int i2), (5, .long i14), (7, .int i15)]) (by decide) rfl dX9_oddsOf_56 ?_
              refine sn_lload hO 5 rfl dX9_oddsOf_58 ?_
              refine sn_iload_n hO 2 rfl dX9_oddsOf_60 ?_
              refine sn_iload hO 6 rfl dX9_oddsOf_61 ?_
              refine sn_callS hO (c2 := 0) (s2 := 0) [.int p1, .int i15] csX9_435 ctX9_is ⟨Nat.le_of_ble_eq_true rfl, Nat.le_of_ble_eq_true rfl⟩ rfl rfl (Nat.le_of_ble_eq_true rfl) ⟨Nat.le_of_ble_eq_true rfl, Nat.le_of_ble_eq_true rfl, rfl, rfl⟩ dX9_oddsOf_63 (sn_bIp (fun r18 => ?_)) sn_x0
              refine sn_jn_walk (fun (k : Int64 → Prop) => ∀ (v19 : Int64), k v19 → sn_G LoM w rmX9_oddsOf Qq sn_noE C 0 0 97 [(0, .ref (w.2.2.1 0)), (1, .int p1), (2, .long i1), (4, .int i2), (7, .int i15)] [.long v19, .long i14] S10) ?_ ?_
              · intro v19
                refine sn_lmul hO dX9_oddsOf_97 ?_
                refine sn_nmL (fun x21 => ?_)
                refine sn_lstore hO (lv' := [(5, .long x21), (0, .ref (w.2.2.1 0)), (1, .int p1), (2, .long i1), (4, .int i2), (7, .int i15)]) (by decide) rfl dX9_oddsOf_98 ?_
                refine sn_iinc hO (lv' := [(7, .int (i15 + 1)), (5, .long x21), (0, .ref (w.2.2.1 0)), (1, .int p1), (2, .long i1), (4, .int i2)]) 5 rfl ki_1 (by decide) rfl dX9_oddsOf_100 ?_
                refine sn_goto hO 38 (by decide) dX9_oddsOf_103 ?_
                refine sn_sub [2, 3, 4, 5, 1, 0] rfl ?_
                exact hrc16 _ _
              · intro k20 hk20
                refine sn_if_ne hO 75 (by decide) dX9_oddsOf_66 ?_ ?_
                · refine sn_iload hO 4 rfl dX9_oddsOf_75 ?_
                  refine sn_iload hO 6 rfl dX9_oddsOf_77 ?_
                  refine sn_callS hO (c2 := 0) (s2 := 0) [.int i2, .int i15] csX9_435 ctX9_is ⟨Nat.le_of_ble_eq_true rfl, Nat.le_of_ble_eq_true rfl⟩ rfl rfl (Nat.le_of_ble_eq_true rfl) ⟨Nat.le_of_ble_eq_true rfl, Nat.le_of_ble_eq_true rfl, rfl, rfl⟩ dX9_oddsOf_79 (sn_bIp (fun r22 => ?_)) sn_x0
                  refine sn_if_eq hO 94 (by decide) dX9_oddsOf_82 ?_ ?_
                  · refine sn_iload hO 0 rfl dX9_oddsOf_94 ?_
                    refine sn_i2l hO dX9_oddsOf_96 ?_
                    refine sn_sub [1, 2, 3, 4, 6] rfl ?_
                    exact hk20 _
                  · refine sn_bipush hO kb_100 dX9_oddsOf_85 ?_
                    refine sn_iload hO 0 rfl dX9_oddsOf_87 ?_
                    refine sn_isub hO dX9_oddsOf_89 ?_
                    refine sn_i2l hO dX9_oddsOf_90 ?_
                    refine sn_goto hO 97 (by decide) dX9_oddsOf_91 ?_
                    refine sn_sub [1, 2, 3, 4, 6] rfl ?_
                    exact hk20 _
                · refine sn_ldc2 hO q1695 dX9_oddsOf_69 ?_
                  refine sn_goto hO 97 (by decide) dX9_oddsOf_72 ?_
                  refine sn_sub [1, 2, 3, 4, 6] rfl ?_
                  exact hk20 _
theorem ctX9_oddsOf {w : sn_W} {p1 : Int32} {S : sn_S} {Q : Int64 → sn_S → Prop} (h : wpX9_oddsOf p1 S Q) : sn_Ct LoM w yX9_oddsOf (ws_ yX9_oddsOf cX9_oddsOf 9 (some .long)) rmX9_oddsOf [.ref (w.2.2.1 0), .int p1] S (sn_qL Q) sn_noE := sn_Ct_of (LoM_X w) (by decide) (Nat.le_of_ble_eq_true rfl) RX9 rfl (fun C hO => wkX9_oddsOf hO p1 S Q h)
def rmX9_odds : Room := { frames := 5, cells := 0, slots := 0, locals := 117 }
/-- SnailPostModel.odds()J -/
def wpX9_odds (S : sn_S) (Q : Int64 → sn_S → Prop) : Prop :=
  sn_lt (sn_pI S 0 0 0) (fun S1 => wpX9_allSnails S1 (fun (r2 : Int32) => wpX9_oddsOf r2 S1 (fun (r3 : Int64) (S4 : sn_S) => Q r3 S4)))
theorem wkX9_odds {w : sn_W} {C : sn_C} (hO : sn_Ok LoM w C RX9 cX9_odds 1 (some .long) [] "odds") (S : sn_S) (Q : Int64 → sn_S → Prop) : wpX9_odds S Q → sn_G LoM w rmX9_odds (sn_qL Q) sn_noE C 0 0 0 [(0, .ref (w.2.2.1 0))] [] S := by
  unfold wpX9_odds
  generalize hQq : (sn_qL Q) = Qq
  refine sn_aload_n hO 0 rfl dX9_odds_0 ?_
  refine sn_iconst hO kc_0 dX9_odds_1 ?_
  refine sn_putI hO fmX9_150 atM_0 rfl rfl dX9_odds_2 ?_
  refine sn_nmS (fun S1 => ?_)
  refine sn_aload_n hO 0 rfl dX9_odds_5 ?_
  refine sn_aload_n hO 0 rfl dX9_odds_6 ?_
  refine sn_callV hO (c2 := 0) (s2 := 0) [] cvX9_460 (fun _ => sn_Rv_K atM_0) ctX9_allSnails ⟨Nat.le_of_ble_eq_true rfl, Nat.le_of_ble_eq_true rfl⟩ rfl rfl (Nat.le_of_ble_eq_true rfl) ⟨Nat.le_of_ble_eq_true rfl, Nat.le_of_ble_eq_true rfl, rfl, rfl⟩ dX9_odds_7 (sn_bIp (fun r2 => ?_)) sn_x0
  refine sn_callV hO (c2 := 0) (s2 := 0) [.int r2] cvX9_466 (fun _ => sn_Rv_K atM_0) ctX9_oddsOf ⟨Nat.le_of_ble_eq_true rfl, Nat.le_of_ble_eq_true rfl⟩ rfl rfl (Nat.le_of_ble_eq_true rfl) ⟨Nat.le_of_ble_eq_true rfl, Nat.le_of_ble_eq_true rfl, rfl, rfl⟩ dX9_odds_10 (sn_bL (fun r3 S4 => ?_)) sn_x0
  subst hQq
  exact sn_lret hO rfl dX9_odds_13
theorem ctX9_odds {w : sn_W} {S : sn_S} {Q : Int64 → sn_S → Prop} (h : wpX9_odds S Q) : sn_Ct LoM w yX9_odds (ws_ yX9_odds cX9_odds 1 (some .long)) rmX9_odds [.ref (w.2.2.1 0)] S (sn_qL Q) sn_noE := sn_Ct_of (LoM_X w) (by decide) (Nat.le_of_ble_eq_true rfl) RX9 rfl (fun C hO => wkX9_odds hO S Q h)
def rmX9_keys : Room := { frames := 4, cells := 0, slots := 0, locals := 89 }
/-- SnailPostModel.keys()I -/
def wpX9_keys (S : sn_S) (Q : Int32 → sn_S → Prop) : Prop :=
  sn_lt (sn_pI S 0 0 0) (fun S1 => sn_lp3 (fun (rc5 : Int32 → Int32 → sn_S → Prop) (i2 : Int32) (i3 : Int32) (S4 : sn_S) => (vp_in 0 5680 ∧ (((S4.1 2 (0 : Int32).toNatClampNeg) ≤ i3 → Q i2 S4) ∧ (¬ (S4.1 2 (0 : Int32).toNatClampNeg) ≤ i3 → wpX9_allSnails S4 (fun (r6 : Int32) => wpX9_isRead (r6 &&& ((1 <<< (i3 &&& 31)) ^^^ (-1))) S4 (fun (r7 : Int32) (S8 : sn_S) => sn_jn (fun (v9 : Int32) => sn_lt (i2 ||| v9) (fun x11 => rc5 x11 (i3 + 1) S8)) (fun (k10 : Int32 → Prop) => ((r7 = 0 → k10 (1 <<< (i3 &&& 31))) ∧ (¬ r7 = 0 → k10 0))))))))) 0 0 S1)
theorem wkX9_keys {w : sn_W} {C : sn_C} (hO : sn_Ok LoM w C RX9 cX9_keys 3 (some .int) [] "keys") (S : sn_S) (Q : Int32 → sn_S → Prop) : wpX9_keys S Q → sn_G LoM w rmX9_keys (sn_qI Q) sn_noE C 0 0 0 [(0, .ref (w.2.2.1 0))] [] S := by
  unfold wpX9_keys
  generalize hQq : (sn_qI Q) = Qq
  refine sn_aload_n hO 0 rfl dX9_keys_0 ?_
  refine sn_iconst hO kc_0 dX9_keys_1 ?_
  refine sn_putI hO fmX9_150 atM_0 rfl rfl dX9_keys_2 ?_
  refine sn_nmS (fun S1 => ?_)
  refine sn_iconst hO kc_0 dX9_keys_5 ?_
  refine sn_istore_n hO (lv' := [(1, .int 0), (0, .ref (w.2.2.1 0))]) (by decide) rfl dX9_keys_6 ?_
  refine sn_iconst hO kc_0 dX9_keys_7 ?_
  refine sn_istore_n hO (lv' := [(2, .int 0), (1, .int 0), (0, .ref (w.2.2.1 0))]) (by decide) rfl dX9_keys_8 ?_
  refine sn_sub [2, 1, 0] rfl ?_
  refine sn_lp3_walk (Gd := fun (i2 : Int32) (i3 : Int32) (S4 : sn_S) => sn_G LoM w rmX9_keys Qq sn_noE C 0 0 9 [(0, .ref (w.2.2.1 0)), (1, .int i2), (2, .int i3)] [] S4) ?_ _ _ _
  intro rc5 hrc5 i2 i3 S4
  refine sn_iload_n hO 2 rfl dX9_keys_9 ?_
  refine sn_aload_n hO 0 rfl dX9_keys_10 ?_
  refine sn_getF hO fmX9_13 atM_0 dX9_keys_11 ?_
  refine sn_iconst hO kc_0 dX9_keys_14 ?_
  refine sn_iald hO atM_2 rfl dX9_keys_15 ?_
  refine sn_icmp_ge hO 52 (by decide) dX9_keys_16 ?_ ?_
  · refine sn_iload_n hO 1 rfl dX9_keys_52 ?_
    subst hQq
    exact sn_iret hO rfl dX9_keys_53
  · refine sn_iload_n hO 1 rfl dX9_keys_19 ?_
    refine sn_aload_n hO 0 rfl dX9_keys_20 ?_
    refine sn_aload_n hO 0 rfl dX9_keys_21 ?_
    refine sn_callV hO (c2 := 0) (s2 := 0) [] cvX9_460 (fun _ => sn_Rv_K atM_0) ctX9_allSnails ⟨Nat.le_of_ble_eq_true rfl, Nat.le_of_ble_eq_true rfl⟩ rfl rfl (Nat.le_of_ble_eq_true rfl) ⟨Nat.le_of_ble_eq_true rfl, Nat.le_of_ble_eq_true rfl, rfl, rfl⟩ dX9_keys_22 (sn_bIp (fun r6 => ?_)) sn_x0
    refine sn_iconst hO kc_1 dX9_keys_25 ?_
    refine sn_iload_n hO 2 rfl dX9_keys_26 ?_
    refine sn_ishl hO dX9_keys_27 ?_
    refine sn_iconst hO kc_m1 dX9_keys_28 ?_
    refine sn_ixor hO dX9_keys_29 ?_
    refine sn_iand hO dX9_keys_30 ?_
    refine sn_callV hO (c2 := 0) (s2 := 0) [.int (r6 &&& ((1 <<< (i3 &&& 31)) ^^^ (-1)))] cvX9_463 (fun _ => sn_Rv_K atM_0) ctX9_isRead ⟨Nat.le_of_ble_eq_true rfl, Nat.le_of_ble_eq_true rfl⟩ rfl rfl (Nat.le_of_ble_eq_true rfl) ⟨Nat.le_of_ble_eq_true rfl, Nat.le_of_ble_eq_true rfl, rfl, rfl⟩ dX9_keys_31 (sn_bI (fun r7 S8 => ?_)) sn_x0
    refine sn_jn_walk (fun (k : Int32 → Prop) => ∀ (v9 : Int32), k v9 → sn_G LoM w rmX9_keys Qq sn_noE C 0 0 44 [(0, .ref (w.2.2.1 0)), (2, .int i3)] [.int v9, .int i2] S8) ?_ ?_
    · intro v9
      refine sn_ior hO dX9_keys_44 ?_
      refine sn_nmI (fun x11 => ?_)
      refine sn_istore_n hO (lv' := [(1, .int x11), (0, .ref (w.2.2.1 0)), (2, .int i3)]) (by decide) rfl dX9_keys_45 ?_
      refine sn_iinc hO (lv' := [(2, .int (i3 + 1)), (1, .int x11), (0, .ref (w.2.2.1 0))]) 2 rfl ki_1 (by decide) rfl dX9_keys_46 ?_
      refine sn_goto hO 9 (by decide) dX9_keys_49 ?_
      refine sn_sub [2, 1, 0] rfl ?_
      exact hrc5 _ _ _
    · intro k10 hk10
      refine sn_if_eq hO 41 (by decide) dX9_keys_34 ?_ ?_
      · refine sn_iconst hO kc_1 dX9_keys_41 ?_
        refine sn_iload_n hO 2 rfl dX9_keys_42 ?_
        refine sn_ishl hO dX9_keys_43 ?_
        refine sn_sub [0, 2] rfl ?_
        exact hk10 _
      · refine sn_iconst hO kc_0 dX9_keys_37 ?_
        refine sn_goto hO 44 (by decide) dX9_keys_38 ?_
        refine sn_sub [0, 2] rfl ?_
        exact hk10 _
theorem ctX9_keys {w : sn_W} {S : sn_S} {Q : Int32 → sn_S → Prop} (h : wpX9_keys S Q) : sn_Ct LoM w yX9_keys (ws_ yX9_keys cX9_keys 3 (some .int)) rmX9_keys [.ref (w.2.2.1 0)] S (sn_qI Q) sn_noE := sn_Ct_of (LoM_X w) (by decide) (Nat.le_of_ble_eq_true rfl) RX9 rfl (fun C hO => wkX9_keys hO S Q h)
def rmX9_send : Room := { frames := 5, cells := 0, slots := 0, locals := 117 }
/-- SnailPostModel.send(I)I -/
def wpX9_send (p1 : Int32) (S : sn_S) (Q : Int32 → sn_S → Prop) : Prop :=
  sn_lt (sn_pI S 0 0 0) (fun S1 => wpX9_in (Int32.toInt64 p1) 0 100 (fun (r2 : Int32) => ((¬ r2 = 0 → sn_jn (fun (v3 : Int64) => sn_lp4 (fun (rc9 : Int32 → Int64 → Int32 → sn_S → Prop) (i5 : Int32) (i6 : Int64) (i7 : Int32) (S8 : sn_S) => wpX9_allSnails S8 (fun (r10 : Int32) => ((r10 < i7 → Q i5 S8) ∧ (¬ r10 < i7 → wpX9_oddsOf i7 S8 (fun (r11 : Int64) (S12 : sn_S) => sn_jn (fun (v13 : Int32) => sn_jn (fun (v15 : Int32) => sn_jn (fun (v17 : Int32) (v18 : Int64) => rc9 v17 v18 (i7 + 1) S12) (fun (k19 : Int32 → Int64 → Prop) => (((lg_cmp (r11 * 100) ((Int32.toInt64 p1) * v3)) < 0 → k19 i5 i6) ∧ (¬ (lg_cmp (r11 * 100) ((Int32.toInt64 p1) * v3)) < 0 → sn_jn (κ := Prop) (k19 i7 r11) (fun (k20 : Prop) => ((¬ v13 = 0 → k20) ∧ (v13 = 0 → ((v15 = 0 → k19 i5 i6) ∧ (¬ v15 = 0 → k20))))))))) (fun (k16 : Int32 → Prop) => sn_jn (κ := Prop) (k16 0) (fun (k21 : Prop) => ((i5 = (-1) → k21) ∧ (¬ i5 = (-1) → wpX9_bits i7 (fun (r22 : Int32) => wpX9_bits i5 (fun (r23 : Int32) => ((¬ r22 = r23 → k21) ∧ (r22 = r23 → (((lg_cmp r11 i6) ≤ 0 → k21) ∧ (¬ (lg_cmp r11 i6) ≤ 0 → k16 1))))))))))) (fun (k14 : Int32 → Prop) => sn_jn (κ := Prop) (k14 1) (fun (k24 : Prop) => ((i5 = (-1) → k24) ∧ (¬ i5 = (-1) → wpX9_bits i7 (fun (r25 : Int32) => wpX9_bits i5 (fun (r26 : Int32) => ((r26 ≤ r25 → k14 0) ∧ (¬ r26 ≤ r25 → k24))))))))))))) (-1) 0 0 S1) (fun (k4 : Int64 → Prop) => sn_lp2 (fun (rc29 : Int64 → Int32 → Prop) (i27 : Int64) (i28 : Int32) => (vp_in 0 5680 ∧ (((S1.1 2 (0 : Int32).toNatClampNeg) ≤ i28 → k4 i27) ∧ (¬ (S1.1 2 (0 : Int32).toNatClampNeg) ≤ i28 → sn_lt (i27 * 100) (fun x30 => rc29 x30 (i28 + 1)))))) 1 0)) ∧ (r2 = 0 → Q (-1) S1))))
theorem wkX9_send {w : sn_W} {C : sn_C} (hO : sn_Ok LoM w C RX9 cX9_send 12 (some .int) [] "send") (p1 : Int32) (S : sn_S) (Q : Int32 → sn_S → Prop) : wpX9_send p1 S Q → sn_G LoM w rmX9_send (sn_qI Q) sn_noE C 0 0 0 [(0, .ref (w.2.2.1 0)), (1, .int p1)] [] S := by
  unfold wpX9_send
  generalize hQq : (sn_qI Q) = Qq
  refine sn_aload_n hO 0 rfl dX9_send_0 ?_
  refine sn_iconst hO kc_0 dX9_send_1 ?_
  refine sn_putI hO fmX9_150 atM_0 rfl rfl dX9_send_2 ?_
  refine sn_nmS (fun S1 => ?_)
  refine sn_iload_n hO 1 rfl dX9_send_5 ?_
  refine sn_i2l hO dX9_send_6 ?_
  refine sn_lconst hO (v := 0) rfl dX9_send_7 ?_
  refine sn_ldc2 hO q1695 dX9_send_8 ?_
  refine sn_callS hO (c2 := 0) (s2 := 0) [.long (Int32.toInt64 p1), .long 0, .long 100] csX9_160 ctX9_in ⟨Nat.le_of_ble_eq_true rfl, Nat.le_of_ble_eq_true rfl⟩ rfl rfl (Nat.le_of_ble_eq_true rfl) ⟨Nat.le_of_ble_eq_true rfl, Nat.le_of_ble_eq_true rfl, rfl, rfl⟩ dX9_send_11 (sn_bIp (fun r2 => ?_)) sn_x0
  refine sn_if_ne hO 19 (by decide) dX9_send_14 ?_ ?_
  · refine sn_lconst hO (v := 1) rfl dX9_send_19 ?_
    refine sn_lstore_n hO (lv' := [(2, .long 1), (0, .ref (w.2.2.1 0)), (1, .int p1)]) (by decide) rfl dX9_send_20 ?_
    refine sn_iconst hO kc_0 dX9_send_21 ?_
    refine sn_istore hO (lv' := [(4, .int 0), (2, .long 1), (0, .ref (w.2.2.1 0)), (1, .int p1)]) (by decide) rfl dX9_send_22 ?_
    refine sn_jn_walk (fun (k : Int64 → Prop) => ∀ (v3 : Int64), k v3 → sn_G LoM w rmX9_send Qq sn_noE C 0 0 47 [(0, .ref (w.2.2.1 0)), (1, .int p1), (2, .long v3)] [] S1) ?_ ?_
    · intro v3
      refine sn_iconst hO kc_m1 dX9_send_47 ?_
      refine sn_istore hO (lv' := [(4, .int (-1)), (0, .ref (w.2.2.1 0)), (1, .int p1), (2, .long v3)]) (by decide) rfl dX9_send_48 ?_
      refine sn_lconst hO (v := 0) rfl dX9_send_50 ?_
      refine sn_lstore hO (lv' := [(5, .long 0), (4, .int (-1)), (0, .ref (w.2.2.1 0)), (1, .int p1), (2, .long v3)]) (by decide) rfl dX9_send_51 ?_
      refine sn_iconst hO kc_0 dX9_send_53 ?_
      refine sn_istore hO (lv' := [(7, .int 0), (5, .long 0), (4, .int (-1)), (0, .ref (w.2.2.1 0)), (1, .int p1), (2, .long v3)]) (by decide) rfl dX9_send_54 ?_
      refine sn_sub [3, 4, 5, 2, 1, 0] rfl ?_
      refine sn_lp4_walk (Gd := fun (i5 : Int32) (i6 : Int64) (i7 : Int32) (S8 : sn_S) => sn_G LoM w rmX9_send Qq sn_noE C 0 0 56 [(0, .ref (w.2.2.1 0)), (1, .int p1), (2, .long v3), (4, .int i5), (5, .long i6), (7, .int i7)] [] S8) ?_ _ _ _ _
      intro rc9 hrc9 i5 i6 i7 S8
      refine sn_iload hO 5 rfl dX9_send_56 ?_
      refine sn_aload_n hO 0 rfl dX9_send_58 ?_
      refine sn_callV hO (c2 := 0) (s2 := 0) [] cvX9_460 (fun _ => sn_Rv_K atM_0) ctX9_allSnails ⟨Nat.le_of_ble_eq_true rfl, Nat.le_of_ble_eq_true rfl⟩ rfl rfl (Nat.le_of_ble_eq_true rfl) ⟨Nat.le_of_ble_eq_true rfl, Nat.le_of_ble_eq_true rfl, rfl, rfl⟩ dX9_send_59 (sn_bIp (fun r10 => ?_)) sn_x0
      refine sn_icmp_gt hO 171 (by decide) dX9_send_62 ?_ ?_
      · refine sn_iload hO 3 rfl dX9_send_171 ?_
        subst hQq
        exact sn_iret hO rfl dX9_send_173
      · refine sn_aload_n hO 0 rfl dX9_send_65 ?_
        refine sn_iload hO 5 rfl dX9_send_66 ?_
        refine sn_callV hO (c2 := 0) (s2 := 0) [.int i7] cvX9_466 (fun _ => sn_Rv_K atM_0) ctX9_oddsOf ⟨Nat.le_of_ble_eq_true rfl, Nat.le_of_ble_eq_true rfl⟩ rfl rfl (Nat.le_of_ble_eq_true rfl) ⟨Nat.le_of_ble_eq_true rfl, Nat.le_of_ble_eq_true rfl, rfl, rfl⟩ dX9_send_68 (sn_bL (fun r11 S12 => ?_)) sn_x0
        refine sn_lstore hO (lv' := [(8, .long r11), (0, .ref (w.2.2.1 0)), (1, .int p1), (2, .long v3), (4, .int i5), (5, .long i6), (7, .int i7)]) (by decide) rfl dX9_send_71 ?_
        refine sn_iload hO 4 rfl dX9_send_73 ?_
        refine sn_iconst hO kc_m1 dX9_send_75 ?_
        refine sn_jn_walk (fun (k : Int32 → Prop) => ∀ (v13 : Int32), k v13 → sn_G LoM w rmX9_send Qq sn_noE C 0 0 97 [(0, .ref (w.2.2.1 0)), (1, .int p1), (2, .long v3), (4, .int i5), (5, .long i6), (7, .int i7), (8, .long r11)] [.int v13] S12) ?_ ?_
        · intro v13
          refine sn_istore hO (lv' := [(10, .int v13), (0, .ref (w.2.2.1 0)), (1, .int p1), (2, .long v3), (4, .int i5), (5, .long i6), (7, .int i7), (8, .long r11)]) (by decide) rfl dX9_send_97 ?_
          refine sn_iload hO 4 rfl dX9_send_99 ?_
          refine sn_iconst hO kc_m1 dX9_send_101 ?_
          refine sn_jn_walk (fun (k : Int32 → Prop) => ∀ (v15 : Int32), k v15 → sn_G LoM w rmX9_send Qq sn_noE C 0 0 131 [(0, .ref (w.2.2.1 0)), (1, .int p1), (2, .long v3), (4, .int i5), (5, .long i6), (7, .int i7), (8, .long r11), (10, .int v13)] [.int v15] S12) ?_ ?_
          · intro v15
            refine sn_istore hO (lv' := [(11, .int v15), (0, .ref (w.2.2.1 0)), (1, .int p1), (2, .long v3), (4, .int i5), (5, .long i6), (7, .int i7), (8, .long r11), (10, .int v13)]) (by decide) rfl dX9_send_131 ?_
            refine sn_lload hO 7 rfl dX9_send_133 ?_
            refine sn_ldc2 hO q1695 dX9_send_135 ?_
            refine sn_lmul hO dX9_send_138 ?_
            refine sn_iload_n hO 2 rfl dX9_send_139 ?_
            refine sn_i2l hO dX9_send_140 ?_
            refine sn_lload_n hO 3 rfl dX9_send_141 ?_
            refine sn_lmul hO dX9_send_142 ?_
            refine sn_lcmp hO dX9_send_143 ?_
            refine sn_jn_walk (fun (k : Int32 → Int64 → Prop) => ∀ (v17 : Int32) (v18 : Int64), k v17 v18 → sn_G LoM w rmX9_send Qq sn_noE C 0 0 165 [(0, .ref (w.2.2.1 0)), (1, .int p1), (2, .long v3), (4, .int v17), (5, .long v18), (7, .int i7)] [] S12) ?_ ?_
            · intro v17 v18
              refine sn_iinc hO (lv' := [(7, .int (i7 + 1)), (0, .ref (w.2.2.1 0)), (1, .int p1), (2, .long v3), (4, .int v17), (5, .long v18)]) 5 rfl ki_1 (by decide) rfl dX9_send_165 ?_
              refine sn_goto hO 56 (by decide) dX9_send_168 ?_
              refine sn_sub [1, 2, 3, 4, 5, 0] rfl ?_
              exact hrc9 _ _ _ _
            · intro k19 hk19
              refine sn_if_lt hO 165 (by decide) dX9_send_144 ?_ ?_
              · refine sn_sub [1, 2, 3, 4, 5, 6] rfl ?_
                exact hk19 _ _
              · refine sn_iload hO 8 rfl dX9_send_147 ?_
                refine sn_jn_walk (fun (k : Prop) => k → sn_G LoM w rmX9_send Qq sn_noE C 0 0 157 [(0, .ref (w.2.2.1 0)), (1, .int p1), (2, .long v3), (7, .int i7), (8, .long r11)] [] S12) ?_ ?_
                · refine sn_iload hO 3 rfl dX9_send_157 ?_
                  refine sn_istore hO (lv' := [(4, .int i7), (0, .ref (w.2.2.1 0)), (1, .int p1), (2, .long v3), (7, .int i7), (8, .long r11)]) (by decide) rfl dX9_send_159 ?_
                  refine sn_lload hO 5 rfl dX9_send_161 ?_
                  refine sn_lstore hO (lv' := [(5, .long r11), (4, .int i7), (0, .ref (w.2.2.1 0)), (1, .int p1), (2, .long v3), (7, .int i7), (8, .long r11)]) (by decide) rfl dX9_send_163 ?_
                  refine sn_sub [2, 3, 4, 1, 0, 5] rfl ?_
                  exact hk19 _ _
                · intro k20 hk20
                  refine sn_if_ne hO 157 (by decide) dX9_send_149 ?_ ?_
                  · refine sn_sub [1, 2, 3, 6, 7] rfl ?_
                    exact hk20
                  · refine sn_iload hO 0 rfl dX9_send_152 ?_
                    refine sn_if_eq hO 165 (by decide) dX9_send_154 ?_ ?_
                    · refine sn_sub [1, 2, 3, 4, 5, 6] rfl ?_
                      exact hk19 _ _
                    · refine sn_sub [1, 2, 3, 6, 7] rfl ?_
                      exact hk20
          · intro k16 hk16
            refine sn_jn_walk (fun (k : Prop) => k → sn_G LoM w rmX9_send Qq sn_noE C 0 0 130 [(0, .ref (w.2.2.1 0)), (1, .int p1), (2, .long v3), (4, .int i5), (5, .long i6), (7, .int i7), (8, .long r11), (10, .int v13)] [] S12) ?_ ?_
            · refine sn_iconst hO kc_0 dX9_send_130 ?_
              exact hk16 _
            · intro k21 hk21
              refine sn_icmp_eq hO 130 (by decide) dX9_send_102 ?_ ?_
              · refine sn_sub [1, 2, 3, 4, 5, 6, 7, 0] rfl ?_
                exact hk21
              · refine sn_iload hO 6 rfl dX9_send_105 ?_
                refine sn_callS hO (c2 := 0) (s2 := 0) [.int i7] csX9_379 ctX9_bits ⟨Nat.le_of_ble_eq_true rfl, Nat.le_of_ble_eq_true rfl⟩ rfl rfl (Nat.le_of_ble_eq_true rfl) ⟨Nat.le_of_ble_eq_true rfl, Nat.le_of_ble_eq_true rfl, rfl, rfl⟩ dX9_send_107 (sn_bIp (fun r22 => ?_)) sn_x0
                refine sn_iload hO 4 rfl dX9_send_110 ?_
                refine sn_callS hO (c2 := 0) (s2 := 0) [.int i5] csX9_379 ctX9_bits ⟨Nat.le_of_ble_eq_true rfl, Nat.le_of_ble_eq_true rfl⟩ rfl rfl (Nat.le_of_ble_eq_true rfl) ⟨Nat.le_of_ble_eq_true rfl, Nat.le_of_ble_eq_true rfl, rfl, rfl⟩ dX9_send_112 (sn_bIp (fun r23 => ?_)) sn_x0
                refine sn_icmp_ne hO 130 (by decide) dX9_send_115 ?_ ?_
                · refine sn_sub [1, 2, 3, 4, 5, 6, 7, 0] rfl ?_
                  exact hk21
                · refine sn_lload hO 7 rfl dX9_send_118 ?_
                  refine sn_lload hO 5 rfl dX9_send_120 ?_
                  refine sn_lcmp hO dX9_send_122 ?_
                  refine sn_if_le hO 130 (by decide) dX9_send_123 ?_ ?_
                  · refine sn_sub [1, 2, 3, 4, 5, 6, 7, 0] rfl ?_
                    exact hk21
                  · refine sn_iconst hO kc_1 dX9_send_126 ?_
                    refine sn_goto hO 131 (by decide) dX9_send_127 ?_
                    refine sn_sub [1, 2, 3, 4, 5, 6, 7, 0] rfl ?_
                    exact hk16 _
        · intro k14 hk14
          refine sn_jn_walk (fun (k : Prop) => k → sn_G LoM w rmX9_send Qq sn_noE C 0 0 92 [(0, .ref (w.2.2.1 0)), (1, .int p1), (2, .long v3), (4, .int i5), (5, .long i6), (7, .int i7), (8, .long r11)] [] S12) ?_ ?_
          · refine sn_iconst hO kc_1 dX9_send_92 ?_
            refine sn_goto hO 97 (by decide) dX9_send_93 ?_
            exact hk14 _
          · intro k24 hk24
            refine sn_icmp_eq hO 92 (by decide) dX9_send_76 ?_ ?_
            · refine sn_sub [1, 2, 3, 4, 5, 6, 0] rfl ?_
              exact hk24
            · refine sn_iload hO 6 rfl dX9_send_79 ?_
              refine sn_callS hO (c2 := 0) (s2 := 0) [.int i7] csX9_379 ctX9_bits ⟨Nat.le_of_ble_eq_true rfl, Nat.le_of_ble_eq_true rfl⟩ rfl rfl (Nat.le_of_ble_eq_true rfl) ⟨Nat.le_of_ble_eq_true rfl, Nat.le_of_ble_eq_true rfl, rfl, rfl⟩ dX9_send_81 (sn_bIp (fun r25 => ?_)) sn_x0
              refine sn_iload hO 4 rfl dX9_send_84 ?_
              refine sn_callS hO (c2 := 0) (s2 := 0) [.int i5] csX9_379 ctX9_bits ⟨Nat.le_of_ble_eq_true rfl, Nat.le_of_ble_eq_true rfl⟩ rfl rfl (Nat.le_of_ble_eq_true rfl) ⟨Nat.le_of_ble_eq_true rfl, Nat.le_of_ble_eq_true rfl, rfl, rfl⟩ dX9_send_86 (sn_bIp (fun r26 => ?_)) sn_x0
              refine sn_icmp_ge hO 96 (by decide) dX9_send_89 ?_ ?_
              · refine sn_iconst hO kc_0 dX9_send_96 ?_
                refine sn_sub [1, 2, 3, 4, 5, 6, 0] rfl ?_
                exact hk14 _
              · refine sn_sub [1, 2, 3, 4, 5, 6, 0] rfl ?_
                exact hk24
    · intro k4 hk4
      refine sn_sub [2, 3, 1, 0] rfl ?_
      refine sn_lp2_walk (Gd := fun (i27 : Int64) (i28 : Int32) => sn_G LoM w rmX9_send Qq sn_noE C 0 0 24 [(0, .ref (w.2.2.1 0)), (1, .int p1), (2, .long i27), (4, .int i28)] [] S1) ?_ _ _
      intro rc29 hrc29 i27 i28
      refine sn_iload hO 3 rfl dX9_send_24 ?_
      refine sn_aload_n hO 0 rfl dX9_send_26 ?_
      refine sn_getF hO fmX9_13 atM_0 dX9_send_27 ?_
      refine sn_iconst hO kc_0 dX9_send_30 ?_
      refine sn_iald hO atM_2 rfl dX9_send_31 ?_
      refine sn_icmp_ge hO 47 (by decide) dX9_send_32 ?_ ?_
      · refine sn_sub [0, 1, 2] rfl ?_
        exact hk4 _
      · refine sn_lload_n hO 2 rfl dX9_send_35 ?_
        refine sn_ldc2 hO q1695 dX9_send_36 ?_
        refine sn_lmul hO dX9_send_39 ?_
        refine sn_nmL (fun x30 => ?_)
        refine sn_lstore_n hO (lv' := [(2, .long x30), (0, .ref (w.2.2.1 0)), (1, .int p1), (4, .int i28)]) (by decide) rfl dX9_send_40 ?_
        refine sn_iinc hO (lv' := [(4, .int (i28 + 1)), (2, .long x30), (0, .ref (w.2.2.1 0)), (1, .int p1)]) 3 rfl ki_1 (by decide) rfl dX9_send_41 ?_
        refine sn_goto hO 24 (by decide) dX9_send_44 ?_
        refine sn_sub [2, 3, 1, 0] rfl ?_
        exact hrc29 _ _
  · refine sn_iconst hO kc_m1 dX9_send_17 ?_
    subst hQq
    exact sn_iret hO rfl dX9_send_18
theorem ctX9_send {w : sn_W} {p1 : Int32} {S : sn_S} {Q : Int32 → sn_S → Prop} (h : wpX9_send p1 S Q) : sn_Ct LoM w yX9_send (ws_ yX9_send cX9_send 12 (some .int)) rmX9_send [.ref (w.2.2.1 0), .int p1] S (sn_qI Q) sn_noE := sn_Ct_of (LoM_X w) (by decide) (Nat.le_of_ble_eq_true rfl) RX9 rfl (fun C hO => wkX9_send hO p1 S Q h)
def rmX9_areSafe : Room := { frames := 3, cells := 0, slots := 0, locals := 67 }
/-- SnailPostModel.areSafe(III)Z -/
def wpX9_areSafe (p1 : Int32) (p2 : Int32) (p3 : Int32) (S : sn_S) (Q : Int32 → sn_S → Prop) : Prop :=
  sn_lp2 (fun (rc3 : Int32 → sn_S → Prop) (i1 : Int32) (S2 : sn_S) => (((1 <<< (p1 &&& 31)) ≤ i1 → Q 1 S2) ∧ (¬ (1 <<< (p1 &&& 31)) ≤ i1 → sn_jn (fun (v4 : Int32) => sn_jn (fun (S6 : sn_S) => rc3 (i1 + 1) S6) (fun (k7 : sn_S → Prop) => ((¬ v4 = p3 → k7 S2) ∧ (v4 = p3 → wpX9_noSteps S2 (fun (S8 : sn_S) => sn_jn (fun (S9 : sn_S) => wpX9_areKnown p2 S9 (fun (r11 : Int32) => ((¬ r11 = 0 → k7 S9) ∧ (r11 = 0 → Q 0 S9)))) (fun (k10 : sn_S → Prop) => sn_lp2 (fun (rc14 : Int32 → sn_S → Prop) (i12 : Int32) (S13 : sn_S) => ((p1 ≤ i12 → k10 S13) ∧ (¬ p1 ≤ i12 → wpX9_is i1 i12 (fun (r15 : Int32) => sn_jn (fun (S16 : sn_S) => rc14 (i12 + 1) S16) (fun (k17 : sn_S → Prop) => ((¬ r15 = 0 → k17 S13) ∧ (r15 = 0 → (vp_in i12 8 ∧ wpX9_put1 (S13.1 30 (i12).toNatClampNeg) S13 (fun (S18 : sn_S) => k17 S18))))))))) 0 S8)))))) (fun (k5 : Int32 → Prop) => sn_lp2 (fun (rc21 : Int32 → Int32 → Prop) (i19 : Int32) (i20 : Int32) => ((p1 ≤ i20 → k5 i19) ∧ (¬ p1 ≤ i20 → sn_lt (i19 + ((i1 >>> (i20 &&& 31)) &&& 1)) (fun x22 => rc21 x22 (i20 + 1))))) 0 0)))) 0 S
theorem wkX9_areSafe {w : sn_W} {C : sn_C} (hO : sn_Ok LoM w C RX9 cX9_areSafe 7 (some .boolean) [] "areSafe") (p1 : Int32) (p2 : Int32) (p3 : Int32) (S : sn_S) (Q : Int32 → sn_S → Prop) : wpX9_areSafe p1 p2 p3 S Q → sn_G LoM w rmX9_areSafe (sn_qI Q) sn_noE C 0 0 0 [(0, .ref (w.2.2.1 0)), (1, .int p1), (2, .int p2), (3, .int p3)] [] S := by
  unfold wpX9_areSafe
  generalize hQq : (sn_qI Q) = Qq
  refine sn_iconst hO kc_0 dX9_areSafe_0 ?_
  refine sn_istore hO (lv' := [(4, .int 0), (0, .ref (w.2.2.1 0)), (1, .int p1), (2, .int p2), (3, .int p3)]) (by decide) rfl dX9_areSafe_1 ?_
  refine sn_sub [1, 2, 3, 4, 0] rfl ?_
  refine sn_lp2_walk (Gd := fun (i1 : Int32) (S2 : sn_S) => sn_G LoM w rmX9_areSafe Qq sn_noE C 0 0 3 [(0, .ref (w.2.2.1 0)), (1, .int p1), (2, .int p2), (3, .int p3), (4, .int i1)] [] S2) ?_ _ _
  intro rc3 hrc3 i1 S2
  refine sn_iload hO 4 rfl dX9_areSafe_3 ?_
  refine sn_iconst hO kc_1 dX9_areSafe_5 ?_
  refine sn_iload_n hO 1 rfl dX9_areSafe_6 ?_
  refine sn_ishl hO dX9_areSafe_7 ?_
  refine sn_icmp_ge hO 103 (by decide) dX9_areSafe_8 ?_ ?_
  · refine sn_iconst hO kc_1 dX9_areSafe_103 ?_
    subst hQq
    exact sn_zret hO (ty := .boolean) rfl rfl dX9_areSafe_104
  · refine sn_iconst hO kc_0 dX9_areSafe_11 ?_
    refine sn_istore hO (lv' := [(5, .int 0), (0, .ref (w.2.2.1 0)), (1, .int p1), (2, .int p2), (3, .int p3), (4, .int i1)]) (by decide) rfl dX9_areSafe_12 ?_
    refine sn_iconst hO kc_0 dX9_areSafe_14 ?_
    refine sn_istore hO (lv' := [(6, .int 0), (5, .int 0), (0, .ref (w.2.2.1 0)), (1, .int p1), (2, .int p2), (3, .int p3), (4, .int i1)]) (by decide) rfl dX9_areSafe_15 ?_
    refine sn_jn_walk (fun (k : Int32 → Prop) => ∀ (v4 : Int32), k v4 → sn_G LoM w rmX9_areSafe Qq sn_noE C 0 0 41 [(0, .ref (w.2.2.1 0)), (1, .int p1), (2, .int p2), (3, .int p3), (4, .int i1), (5, .int v4)] [] S2) ?_ ?_
    · intro v4
      refine sn_iload hO 5 rfl dX9_areSafe_41 ?_
      refine sn_iload_n hO 3 rfl dX9_areSafe_43 ?_
      refine sn_jn_walk (fun (k : sn_S → Prop) => ∀ (S6 : sn_S), k S6 → sn_G LoM w rmX9_areSafe Qq sn_noE C 0 0 97 [(0, .ref (w.2.2.1 0)), (1, .int p1), (2, .int p2), (3, .int p3), (4, .int i1)] [] S6) ?_ ?_
      · intro S6
        refine sn_iinc hO (lv' := [(4, .int (i1 + 1)), (0, .ref (w.2.2.1 0)), (1, .int p1), (2, .int p2), (3, .int p3)]) 4 rfl ki_1 (by decide) rfl dX9_areSafe_97 ?_
        refine sn_goto hO 3 (by decide) dX9_areSafe_100 ?_
        refine sn_sub [1, 2, 3, 4, 0] rfl ?_
        exact hrc3 _ _
      · intro k7 hk7
        refine sn_icmp_ne hO 97 (by decide) dX9_areSafe_44 ?_ ?_
        · refine sn_sub [0, 1, 2, 3, 4] rfl ?_
          exact hk7 _
        · refine sn_aload_n hO 0 rfl dX9_areSafe_47 ?_
          refine sn_callV hO (c2 := 0) (s2 := 0) [] cvX9_448 (fun _ => sn_Rv_K atM_0) ctX9_noSteps ⟨Nat.le_of_ble_eq_true rfl, Nat.le_of_ble_eq_true rfl⟩ rfl rfl (Nat.le_of_ble_eq_true rfl) ⟨Nat.le_of_ble_eq_true rfl, Nat.le_of_ble_eq_true rfl, rfl, rfl⟩ dX9_areSafe_48 (sn_bV (fun S8 => ?_)) sn_x0
          refine sn_iconst hO kc_0 dX9_areSafe_51 ?_
          refine sn_istore hO (lv' := [(6, .int 0), (0, .ref (w.2.2.1 0)), (1, .int p1), (2, .int p2), (3, .int p3), (4, .int i1), (5, .int v4)]) (by decide) rfl dX9_areSafe_52 ?_
          refine sn_jn_walk (fun (k : sn_S → Prop) => ∀ (S9 : sn_S), k S9 → sn_G LoM w rmX9_areSafe Qq sn_noE C 0 0 87 [(0, .ref (w.2.2.1 0)), (1, .int p1), (2, .int p2), (3, .int p3), (4, .int i1)] [] S9) ?_ ?_
          · intro S9
            refine sn_aload_n hO 0 rfl dX9_areSafe_87 ?_
            refine sn_iload_n hO 2 rfl dX9_areSafe_88 ?_
            refine sn_callV hO (c2 := 0) (s2 := 0) [.int p2] cvX9_454 (fun _ => sn_Rv_K atM_0) ctX9_areKnown ⟨Nat.le_of_ble_eq_true rfl, Nat.le_of_ble_eq_true rfl⟩ rfl rfl (Nat.le_of_ble_eq_true rfl) ⟨Nat.le_of_ble_eq_true rfl, Nat.le_of_ble_eq_true rfl, rfl, rfl⟩ dX9_areSafe_89 (sn_bIp (fun r11 => ?_)) sn_x0
            refine sn_if_ne hO 97 (by decide) dX9_areSafe_92 ?_ ?_
            · exact hk7 _
            · refine sn_iconst hO kc_0 dX9_areSafe_95 ?_
              subst hQq
              exact sn_zret hO (ty := .boolean) rfl rfl dX9_areSafe_96
          · intro k10 hk10
            refine sn_sub [1, 2, 3, 4, 5, 0] rfl ?_
            refine sn_lp2_walk (Gd := fun (i12 : Int32) (S13 : sn_S) => sn_G LoM w rmX9_areSafe Qq sn_noE C 0 0 54 [(0, .ref (w.2.2.1 0)), (1, .int p1), (2, .int p2), (3, .int p3), (4, .int i1), (6, .int i12)] [] S13) ?_ _ _
            intro rc14 hrc14 i12 S13
            refine sn_iload hO 5 rfl dX9_areSafe_54 ?_
            refine sn_iload_n hO 1 rfl dX9_areSafe_56 ?_
            refine sn_icmp_ge hO 87 (by decide) dX9_areSafe_57 ?_ ?_
            · refine sn_sub [0, 1, 2, 3, 4] rfl ?_
              exact hk10 _
            · refine sn_iload hO 4 rfl dX9_areSafe_60 ?_
              refine sn_iload hO 5 rfl dX9_areSafe_62 ?_
              refine sn_callS hO (c2 := 0) (s2 := 0) [.int i1, .int i12] csX9_435 ctX9_is ⟨Nat.le_of_ble_eq_true rfl, Nat.le_of_ble_eq_true rfl⟩ rfl rfl (Nat.le_of_ble_eq_true rfl) ⟨Nat.le_of_ble_eq_true rfl, Nat.le_of_ble_eq_true rfl, rfl, rfl⟩ dX9_areSafe_64 (sn_bIp (fun r15 => ?_)) sn_x0
              refine sn_jn_walk (fun (k : sn_S → Prop) => ∀ (S16 : sn_S), k S16 → sn_G LoM w rmX9_areSafe Qq sn_noE C 0 0 81 [(0, .ref (w.2.2.1 0)), (1, .int p1), (2, .int p2), (3, .int p3), (4, .int i1), (6, .int i12)] [] S16) ?_ ?_
              · intro S16
                refine sn_iinc hO (lv' := [(6, .int (i12 + 1)), (0, .ref (w.2.2.1 0)), (1, .int p1), (2, .int p2), (3, .int p3), (4, .int i1)]) 5 rfl ki_1 (by decide) rfl dX9_areSafe_81 ?_
                refine sn_goto hO 54 (by decide) dX9_areSafe_84 ?_
                refine sn_sub [1, 2, 3, 4, 5, 0] rfl ?_
                exact hrc14 _ _
              · intro k17 hk17
                refine sn_if_ne hO 81 (by decide) dX9_areSafe_67 ?_ ?_
                · exact hk17 _
                · refine sn_aload_n hO 0 rfl dX9_areSafe_70 ?_
                  refine sn_aload_n hO 0 rfl dX9_areSafe_71 ?_
                  refine sn_getF hO fmX9_129 atM_0 dX9_areSafe_72 ?_
                  refine sn_iload hO 5 rfl dX9_areSafe_75 ?_
                  refine sn_iald hO atM_30 rfl dX9_areSafe_77 ?_
                  refine sn_callV hO (c2 := 0) (s2 := 0) [.int (S13.1 30 (i12).toNatClampNeg)] cvX9_451 (fun _ => sn_Rv_K atM_0) ctX9_put1 ⟨Nat.le_of_ble_eq_true rfl, Nat.le_of_ble_eq_true rfl⟩ rfl rfl (Nat.le_of_ble_eq_true rfl) ⟨Nat.le_of_ble_eq_true rfl, Nat.le_of_ble_eq_true rfl, rfl, rfl⟩ dX9_areSafe_78 (sn_bV (fun S18 => ?_)) sn_x0
                  exact hk17 _
    · intro k5 hk5
      refine sn_sub [2, 3, 4, 5, 6, 1, 0] rfl ?_
      refine sn_lp2_walk (Gd := fun (i19 : Int32) (i20 : Int32) => sn_G LoM w rmX9_areSafe Qq sn_noE C 0 0 17 [(0, .ref (w.2.2.1 0)), (1, .int p1), (2, .int p2), (3, .int p3), (4, .int i1), (5, .int i19), (6, .int i20)] [] S2) ?_ _ _
      intro rc21 hrc21 i19 i20
      refine sn_iload hO 6 rfl dX9_areSafe_17 ?_
      refine sn_iload_n hO 1 rfl dX9_areSafe_19 ?_
      refine sn_icmp_ge hO 41 (by decide) dX9_areSafe_20 ?_ ?_
      · refine sn_sub [0, 1, 2, 3, 4, 5] rfl ?_
        exact hk5 _
      · refine sn_iload hO 5 rfl dX9_areSafe_23 ?_
        refine sn_iload hO 4 rfl dX9_areSafe_25 ?_
        refine sn_iload hO 6 rfl dX9_areSafe_27 ?_
        refine sn_ishr hO dX9_areSafe_29 ?_
        refine sn_iconst hO kc_1 dX9_areSafe_30 ?_
        refine sn_iand hO dX9_areSafe_31 ?_
        refine sn_iadd hO dX9_areSafe_32 ?_
        refine sn_nmI (fun x22 => ?_)
        refine sn_istore hO (lv' := [(5, .int x22), (0, .ref (w.2.2.1 0)), (1, .int p1), (2, .int p2), (3, .int p3), (4, .int i1), (6, .int i20)]) (by decide) rfl dX9_areSafe_33 ?_
        refine sn_iinc hO (lv' := [(6, .int (i20 + 1)), (5, .int x22), (0, .ref (w.2.2.1 0)), (1, .int p1), (2, .int p2), (3, .int p3), (4, .int i1)]) 6 rfl ki_1 (by decide) rfl dX9_areSafe_35 ?_
        refine sn_goto hO 17 (by decide) dX9_areSafe_38 ?_
        refine sn_sub [2, 3, 4, 5, 6, 1, 0] rfl ?_
        exact hrc21 _ _
theorem ctX9_areSafe {w : sn_W} {p1 : Int32} {p2 : Int32} {p3 : Int32} {S : sn_S} {Q : Int32 → sn_S → Prop} (h : wpX9_areSafe p1 p2 p3 S Q) : sn_Ct LoM w yX9_areSafe (ws_ yX9_areSafe cX9_areSafe 7 (some .boolean)) rmX9_areSafe [.ref (w.2.2.1 0), .int p1, .int p2, .int p3] S (sn_qI Q) sn_noE := sn_Ct_of (LoM_X w) (by decide) (Nat.le_of_ble_eq_true rfl) RX9 rfl (fun C hO => wkX9_areSafe hO p1 p2 p3 S Q h)
def rmX9_findShells : Room := { frames := 4, cells := 0, slots := 0, locals := 93 }
/-- SnailPostModel.findShells(III)Z -/
def wpX9_findShells (p1 : Int32) (p2 : Int32) (p3 : Int32) (S : sn_S) (Q : Int32 → sn_S → Prop) : Prop :=
  sn_lt ((1 <<< (p2 &&& 31)) - 1) (fun x1 => sn_jn (fun (S2 : sn_S) => sn_lp1 (fun (rc5 : sn_S → Prop) (S4 : sn_S) => wpX9_areSafe p1 p2 p3 S4 (fun (r6 : Int32) (S7 : sn_S) => ((r6 = 0 → sn_lt (p1 - 1) (fun x8 => sn_jn (fun (v9 : Int32) => ((0 ≤ v9 → (vp_in v9 8 ∧ sn_lt ((S7.1 30 (v9).toNatClampNeg) + 1) (fun x11 => sn_jn (fun (S12 : sn_S) => rc5 S12) (fun (k13 : sn_S → Prop) => sn_lp2 (fun (rc16 : Int32 → sn_S → Prop) (i14 : Int32) (S15 : sn_S) => ((p1 ≤ i14 → k13 S15) ∧ (¬ p1 ≤ i14 → (vp_in i14 8 ∧ sn_lt (sn_pI S15 30 (i14).toNatClampNeg x11) (fun S17 => rc16 (i14 + 1) S17))))) v9 S7)))) ∧ (¬ 0 ≤ v9 → Q 0 S7))) (fun (k10 : Int32 → Prop) => sn_lp1 (fun (rc19 : Int32 → Prop) (i18 : Int32) => ((i18 < 0 → k10 i18) ∧ (¬ i18 < 0 → (vp_in i18 8 ∧ ((¬ (S7.1 30 (i18).toNatClampNeg) = x1 → k10 i18) ∧ ((S7.1 30 (i18).toNatClampNeg) = x1 → rc19 (i18 + (-1)))))))) x8))) ∧ (¬ r6 = 0 → Q 1 S7)))) S2) (fun (k3 : sn_S → Prop) => sn_lp2 (fun (rc22 : Int32 → sn_S → Prop) (i20 : Int32) (S21 : sn_S) => ((p1 ≤ i20 → k3 S21) ∧ (¬ p1 ≤ i20 → (vp_in i20 8 ∧ sn_lt (sn_pI S21 30 (i20).toNatClampNeg 1) (fun S23 => rc22 (i20 + 1) S23))))) 0 S))
theorem wkX9_findShells {w : sn_W} {C : sn_C} (hO : sn_Ok LoM w C RX9 cX9_findShells 8 (some .boolean) [] "findShells") (p1 : Int32) (p2 : Int32) (p3 : Int32) (S : sn_S) (Q : Int32 → sn_S → Prop) : wpX9_findShells p1 p2 p3 S Q → sn_G LoM w rmX9_findShells (sn_qI Q) sn_noE C 0 0 0 [(0, .ref (w.2.2.1 0)), (1, .int p1), (2, .int p2), (3, .int p3)] [] S := by
  unfold wpX9_findShells
  generalize hQq : (sn_qI Q) = Qq
  refine sn_iconst hO kc_1 dX9_findShells_0 ?_
  refine sn_iload_n hO 2 rfl dX9_findShells_1 ?_
  refine sn_ishl hO dX9_findShells_2 ?_
  refine sn_iconst hO kc_1 dX9_findShells_3 ?_
  refine sn_isub hO dX9_findShells_4 ?_
  refine sn_nmI (fun x1 => ?_)
  refine sn_istore hO (lv' := [(4, .int x1), (0, .ref (w.2.2.1 0)), (1, .int p1), (2, .int p2), (3, .int p3)]) (by decide) rfl dX9_findShells_5 ?_
  refine sn_iconst hO kc_0 dX9_findShells_7 ?_
  refine sn_istore hO (lv' := [(5, .int 0), (4, .int x1), (0, .ref (w.2.2.1 0)), (1, .int p1), (2, .int p2), (3, .int p3)]) (by decide) rfl dX9_findShells_8 ?_
  refine sn_jn_walk (fun (k : sn_S → Prop) => ∀ (S2 : sn_S), k S2 → sn_G LoM w rmX9_findShells Qq sn_noE C 0 0 30 [(0, .ref (w.2.2.1 0)), (1, .int p1), (2, .int p2), (3, .int p3), (4, .int x1)] [] S2) ?_ ?_
  · intro S2
    refine sn_lp1_walk (Gd := fun (S4 : sn_S) => sn_G LoM w rmX9_findShells Qq sn_noE C 0 0 30 [(0, .ref (w.2.2.1 0)), (1, .int p1), (2, .int p2), (3, .int p3), (4, .int x1)] [] S4) ?_ _
    intro rc5 hrc5 S4
    refine sn_aload_n hO 0 rfl dX9_findShells_30 ?_
    refine sn_iload_n hO 1 rfl dX9_findShells_31 ?_
    refine sn_iload_n hO 2 rfl dX9_findShells_32 ?_
    refine sn_iload_n hO 3 rfl dX9_findShells_33 ?_
    refine sn_callV hO (c2 := 0) (s2 := 0) [.int p1, .int p2, .int p3] cvX9_470 (fun _ => sn_Rv_K atM_0) ctX9_areSafe ⟨Nat.le_of_ble_eq_true rfl, Nat.le_of_ble_eq_true rfl⟩ rfl rfl (Nat.le_of_ble_eq_true rfl) ⟨Nat.le_of_ble_eq_true rfl, Nat.le_of_ble_eq_true rfl, rfl, rfl⟩ dX9_findShells_34 (sn_bI (fun r6 S7 => ?_)) sn_x0
    refine sn_if_eq hO 42 (by decide) dX9_findShells_37 ?_ ?_
    · refine sn_iload_n hO 1 rfl dX9_findShells_42 ?_
      refine sn_iconst hO kc_1 dX9_findShells_43 ?_
      refine sn_isub hO dX9_findShells_44 ?_
      refine sn_nmI (fun x8 => ?_)
      refine sn_istore hO (lv' := [(5, .int x8), (0, .ref (w.2.2.1 0)), (1, .int p1), (2, .int p2), (3, .int p3), (4, .int x1)]) (by decide) rfl dX9_findShells_45 ?_
      refine sn_jn_walk (fun (k : Int32 → Prop) => ∀ (v9 : Int32), k v9 → sn_G LoM w rmX9_findShells Qq sn_noE C 0 0 70 [(0, .ref (w.2.2.1 0)), (1, .int p1), (2, .int p2), (3, .int p3), (4, .int x1), (5, .int v9)] [] S7) ?_ ?_
      · intro v9
        refine sn_iload hO 5 rfl dX9_findShells_70 ?_
        refine sn_if_ge hO 77 (by decide) dX9_findShells_72 ?_ ?_
        · refine sn_aload_n hO 0 rfl dX9_findShells_77 ?_
          refine sn_getF hO fmX9_129 atM_0 dX9_findShells_78 ?_
          refine sn_iload hO 5 rfl dX9_findShells_81 ?_
          refine sn_iald hO atM_30 rfl dX9_findShells_83 ?_
          refine sn_iconst hO kc_1 dX9_findShells_84 ?_
          refine sn_iadd hO dX9_findShells_85 ?_
          refine sn_nmI (fun x11 => ?_)
          refine sn_istore hO (lv' := [(6, .int x11), (0, .ref (w.2.2.1 0)), (1, .int p1), (2, .int p2), (3, .int p3), (4, .int x1), (5, .int v9)]) (by decide) rfl dX9_findShells_86 ?_
          refine sn_iload hO 6 rfl dX9_findShells_88 ?_
          refine sn_istore hO (lv' := [(7, .int v9), (6, .int x11), (0, .ref (w.2.2.1 0)), (1, .int p1), (2, .int p2), (3, .int p3), (4, .int x1), (5, .int v9)]) (by decide) rfl dX9_findShells_90 ?_
          refine sn_jn_walk (fun (k : sn_S → Prop) => ∀ (S12 : sn_S), k S12 → sn_G LoM w rmX9_findShells Qq sn_noE C 0 0 113 [(0, .ref (w.2.2.1 0)), (1, .int p1), (2, .int p2), (3, .int p3), (4, .int x1)] [] S12) ?_ ?_
          · intro S12
            refine sn_goto hO 30 (by decide) dX9_findShells_113 ?_
            exact hrc5 _
          · intro k13 hk13
            refine sn_sub [2, 3, 4, 5, 6, 1, 0] rfl ?_
            refine sn_lp2_walk (Gd := fun (i14 : Int32) (S15 : sn_S) => sn_G LoM w rmX9_findShells Qq sn_noE C 0 0 92 [(0, .ref (w.2.2.1 0)), (1, .int p1), (2, .int p2), (3, .int p3), (4, .int x1), (6, .int x11), (7, .int i14)] [] S15) ?_ _ _
            intro rc16 hrc16 i14 S15
            refine sn_iload hO 6 rfl dX9_findShells_92 ?_
            refine sn_iload_n hO 1 rfl dX9_findShells_94 ?_
            refine sn_icmp_ge hO 113 (by decide) dX9_findShells_95 ?_ ?_
            · refine sn_sub [0, 1, 2, 3, 4] rfl ?_
              exact hk13 _
            · refine sn_aload_n hO 0 rfl dX9_findShells_98 ?_
              refine sn_getF hO fmX9_129 atM_0 dX9_findShells_99 ?_
              refine sn_iload hO 6 rfl dX9_findShells_102 ?_
              refine sn_iload hO 5 rfl dX9_findShells_104 ?_
              refine sn_iast hO atM_30 rfl dX9_findShells_106 ?_
              refine sn_nmS (fun S17 => ?_)
              refine sn_iinc hO (lv' := [(7, .int (i14 + 1)), (0, .ref (w.2.2.1 0)), (1, .int p1), (2, .int p2), (3, .int p3), (4, .int x1), (6, .int x11)]) 6 rfl ki_1 (by decide) rfl dX9_findShells_107 ?_
              refine sn_goto hO 92 (by decide) dX9_findShells_110 ?_
              refine sn_sub [1, 2, 3, 4, 5, 6, 0] rfl ?_
              exact hrc16 _ _
        · refine sn_iconst hO kc_0 dX9_findShells_75 ?_
          subst hQq
          exact sn_zret hO (ty := .boolean) rfl rfl dX9_findShells_76
      · intro k10 hk10
        refine sn_sub [1, 2, 3, 4, 5, 0] rfl ?_
        refine sn_lp1_walk (Gd := fun (i18 : Int32) => sn_G LoM w rmX9_findShells Qq sn_noE C 0 0 47 [(0, .ref (w.2.2.1 0)), (1, .int p1), (2, .int p2), (3, .int p3), (4, .int x1), (5, .int i18)] [] S7) ?_ _
        intro rc19 hrc19 i18
        refine sn_iload hO 5 rfl dX9_findShells_47 ?_
        refine sn_if_lt hO 70 (by decide) dX9_findShells_49 ?_ ?_
        · exact hk10 _
        · refine sn_aload_n hO 0 rfl dX9_findShells_52 ?_
          refine sn_getF hO fmX9_129 atM_0 dX9_findShells_53 ?_
          refine sn_iload hO 5 rfl dX9_findShells_56 ?_
          refine sn_iald hO atM_30 rfl dX9_findShells_58 ?_
          refine sn_iload hO 4 rfl dX9_findShells_59 ?_
          refine sn_icmp_ne hO 70 (by decide) dX9_findShells_61 ?_ ?_
          · exact hk10 _
          · refine sn_iinc hO (lv' := [(5, .int (i18 + (-1))), (0, .ref (w.2.2.1 0)), (1, .int p1), (2, .int p2), (3, .int p3), (4, .int x1)]) 5 rfl ki_m1 (by decide) rfl dX9_findShells_64 ?_
            refine sn_goto hO 47 (by decide) dX9_findShells_67 ?_
            refine sn_sub [1, 2, 3, 4, 5, 0] rfl ?_
            exact hrc19 _
    · refine sn_iconst hO kc_1 dX9_findShells_40 ?_
      subst hQq
      exact sn_zret hO (ty := .boolean) rfl rfl dX9_findShells_41
  · intro k3 hk3
    refine sn_sub [2, 3, 4, 5, 1, 0] rfl ?_
    refine sn_lp2_walk (Gd := fun (i20 : Int32) (S21 : sn_S) => sn_G LoM w rmX9_findShells Qq sn_noE C 0 0 10 [(0, .ref (w.2.2.1 0)), (1, .int p1), (2, .int p2), (3, .int p3), (4, .int x1), (5, .int i20)] [] S21) ?_ _ _
    intro rc22 hrc22 i20 S21
    refine sn_iload hO 5 rfl dX9_findShells_10 ?_
    refine sn_iload_n hO 1 rfl dX9_findShells_12 ?_
    refine sn_icmp_ge hO 30 (by decide) dX9_findShells_13 ?_ ?_
    · refine sn_sub [0, 1, 2, 3, 4] rfl ?_
      exact hk3 _
    · refine sn_aload_n hO 0 rfl dX9_findShells_16 ?_
      refine sn_getF hO fmX9_129 atM_0 dX9_findShells_17 ?_
      refine sn_iload hO 5 rfl dX9_findShells_20 ?_
      refine sn_iconst hO kc_1 dX9_findShells_22 ?_
      refine sn_iast hO atM_30 rfl dX9_findShells_23 ?_
      refine sn_nmS (fun S23 => ?_)
      refine sn_iinc hO (lv' := [(5, .int (i20 + 1)), (0, .ref (w.2.2.1 0)), (1, .int p1), (2, .int p2), (3, .int p3), (4, .int x1)]) 5 rfl ki_1 (by decide) rfl dX9_findShells_24 ?_
      refine sn_goto hO 10 (by decide) dX9_findShells_27 ?_
      refine sn_sub [1, 2, 3, 4, 5, 0] rfl ?_
      exact hrc22 _ _
theorem ctX9_findShells {w : sn_W} {p1 : Int32} {p2 : Int32} {p3 : Int32} {S : sn_S} {Q : Int32 → sn_S → Prop} (h : wpX9_findShells p1 p2 p3 S Q) : sn_Ct LoM w yX9_findShells (ws_ yX9_findShells cX9_findShells 8 (some .boolean)) rmX9_findShells [.ref (w.2.2.1 0), .int p1, .int p2, .int p3] S (sn_qI Q) sn_noE := sn_Ct_of (LoM_X w) (by decide) (Nat.le_of_ble_eq_true rfl) RX9 rfl (fun C hO => wkX9_findShells hO p1 p2 p3 S Q h)
def rmX9_shells : Room := { frames := 5, cells := 0, slots := 0, locals := 120 }
/-- SnailPostModel.shells(III)I -/
def wpX9_shells (p1 : Int32) (p2 : Int32) (p3 : Int32) (S : sn_S) (Q : Int32 → sn_S → Prop) : Prop :=
  sn_lt (sn_pI S 0 0 0) (fun S1 => wpX9_in (Int32.toInt64 p1) 1 3 (fun (r2 : Int32) => ((r2 = 0 → Q (-1) S1) ∧ (¬ r2 = 0 → wpX9_in (Int32.toInt64 p2) 0 2 (fun (r3 : Int32) => ((¬ r3 = 0 → sn_lt (p1 + p2) (fun x4 => sn_jn (fun (v5 : Int32) (S6 : sn_S) => ((¬ p3 = (-1) → wpX9_in (Int32.toInt64 p3) 0 ((Int32.toInt64 v5) - 1) (fun (r8 : Int32) => ((r8 = 0 → Q (-1) S6) ∧ (¬ r8 = 0 → (vp_in p3 8 ∧ Q (S6.1 30 (p3).toNatClampNeg) S6))))) ∧ (p3 = (-1) → Q v5 S6))) (fun (k7 : Int32 → sn_S → Prop) => sn_lp2 (fun (rc11 : Int32 → sn_S → Prop) (i9 : Int32) (S10 : sn_S) => wpX9_findShells i9 p1 p2 S10 (fun (r12 : Int32) (S13 : sn_S) => ((¬ r12 = 0 → k7 i9 S13) ∧ (r12 = 0 → rc11 (i9 + 1) S13)))) x4 S1))) ∧ (r3 = 0 → Q (-1) S1)))))))
theorem wkX9_shells {w : sn_W} {C : sn_C} (hO : sn_Ok LoM w C RX9 cX9_shells 5 (some .int) [] "shells") (p1 : Int32) (p2 : Int32) (p3 : Int32) (S : sn_S) (Q : Int32 → sn_S → Prop) : wpX9_shells p1 p2 p3 S Q → sn_G LoM w rmX9_shells (sn_qI Q) sn_noE C 0 0 0 [(0, .ref (w.2.2.1 0)), (1, .int p1), (2, .int p2), (3, .int p3)] [] S := by
  unfold wpX9_shells
  generalize hQq : (sn_qI Q) = Qq
  refine sn_aload_n hO 0 rfl dX9_shells_0 ?_
  refine sn_iconst hO kc_0 dX9_shells_1 ?_
  refine sn_putI hO fmX9_150 atM_0 rfl rfl dX9_shells_2 ?_
  refine sn_nmS (fun S1 => ?_)
  refine sn_iload_n hO 1 rfl dX9_shells_5 ?_
  refine sn_i2l hO dX9_shells_6 ?_
  refine sn_lconst hO (v := 1) rfl dX9_shells_7 ?_
  refine sn_ldc2 hO q2013 dX9_shells_8 ?_
  refine sn_callS hO (c2 := 0) (s2 := 0) [.long (Int32.toInt64 p1), .long 1, .long 3] csX9_160 ctX9_in ⟨Nat.le_of_ble_eq_true rfl, Nat.le_of_ble_eq_true rfl⟩ rfl rfl (Nat.le_of_ble_eq_true rfl) ⟨Nat.le_of_ble_eq_true rfl, Nat.le_of_ble_eq_true rfl, rfl, rfl⟩ dX9_shells_11 (sn_bIp (fun r2 => ?_)) sn_x0
  refine sn_if_eq hO 29 (by decide) dX9_shells_14 ?_ ?_
  · refine sn_iconst hO kc_m1 dX9_shells_29 ?_
    subst hQq
    exact sn_iret hO rfl dX9_shells_30
  · refine sn_iload_n hO 2 rfl dX9_shells_17 ?_
    refine sn_i2l hO dX9_shells_18 ?_
    refine sn_lconst hO (v := 0) rfl dX9_shells_19 ?_
    refine sn_ldc2 hO q1912 dX9_shells_20 ?_
    refine sn_callS hO (c2 := 0) (s2 := 0) [.long (Int32.toInt64 p2), .long 0, .long 2] csX9_160 ctX9_in ⟨Nat.le_of_ble_eq_true rfl, Nat.le_of_ble_eq_true rfl⟩ rfl rfl (Nat.le_of_ble_eq_true rfl) ⟨Nat.le_of_ble_eq_true rfl, Nat.le_of_ble_eq_true rfl, rfl, rfl⟩ dX9_shells_23 (sn_bIp (fun r3 => ?_)) sn_x0
    refine sn_if_ne hO 31 (by decide) dX9_shells_26 ?_ ?_
    · refine sn_iload_n hO 1 rfl dX9_shells_31 ?_
      refine sn_iload_n hO 2 rfl dX9_shells_32 ?_
      refine sn_iadd hO dX9_shells_33 ?_
      refine sn_nmI (fun x4 => ?_)
      refine sn_istore hO (lv' := [(4, .int x4), (0, .ref (w.2.2.1 0)), (1, .int p1), (2, .int p2), (3, .int p3)]) (by decide) rfl dX9_shells_34 ?_
      refine sn_jn_walk (fun (k : Int32 → sn_S → Prop) => ∀ (v5 : Int32) (S6 : sn_S), k v5 S6 → sn_G LoM w rmX9_shells Qq sn_noE C 0 0 53 [(0, .ref (w.2.2.1 0)), (3, .int p3), (4, .int v5)] [] S6) ?_ ?_
      · intro v5 S6
        refine sn_iload_n hO 1 rfl dX9_shells_53 ?_
        refine sn_iconst hO kc_m1 dX9_shells_54 ?_
        refine sn_icmp_ne hO 63 (by decide) dX9_shells_55 ?_ ?_
        · refine sn_iload_n hO 1 rfl dX9_shells_63 ?_
          refine sn_i2l hO dX9_shells_64 ?_
          refine sn_lconst hO (v := 0) rfl dX9_shells_65 ?_
          refine sn_iload hO 2 rfl dX9_shells_66 ?_
          refine sn_i2l hO dX9_shells_68 ?_
          refine sn_lconst hO (v := 1) rfl dX9_shells_69 ?_
          refine sn_lsub hO dX9_shells_70 ?_
          refine sn_callS hO (c2 := 0) (s2 := 0) [.long (Int32.toInt64 p3), .long 0, .long ((Int32.toInt64 v5) - 1)] csX9_160 ctX9_in ⟨Nat.le_of_ble_eq_true rfl, Nat.le_of_ble_eq_true rfl⟩ rfl rfl (Nat.le_of_ble_eq_true rfl) ⟨Nat.le_of_ble_eq_true rfl, Nat.le_of_ble_eq_true rfl, rfl, rfl⟩ dX9_shells_71 (sn_bIp (fun r8 => ?_)) sn_x0
          refine sn_if_eq hO 86 (by decide) dX9_shells_74 ?_ ?_
          · refine sn_iconst hO kc_m1 dX9_shells_86 ?_
            subst hQq
            exact sn_iret hO rfl dX9_shells_87
          · refine sn_aload_n hO 0 rfl dX9_shells_77 ?_
            refine sn_getF hO fmX9_129 atM_0 dX9_shells_78 ?_
            refine sn_iload_n hO 1 rfl dX9_shells_81 ?_
            refine sn_iald hO atM_30 rfl dX9_shells_82 ?_
            refine sn_goto hO 87 (by decide) dX9_shells_83 ?_
            subst hQq
            exact sn_iret hO rfl dX9_shells_87
        · refine sn_iload hO 2 rfl dX9_shells_58 ?_
          refine sn_goto hO 87 (by decide) dX9_shells_60 ?_
          subst hQq
          exact sn_iret hO rfl dX9_shells_87
      · intro k7 hk7
        refine sn_sub [1, 2, 3, 4, 0] rfl ?_
        refine sn_lp2_walk (Gd := fun (i9 : Int32) (S10 : sn_S) => sn_G LoM w rmX9_shells Qq sn_noE C 0 0 36 [(0, .ref (w.2.2.1 0)), (1, .int p1), (2, .int p2), (3, .int p3), (4, .int i9)] [] S10) ?_ _ _
        intro rc11 hrc11 i9 S10
        refine sn_aload_n hO 0 rfl dX9_shells_36 ?_
        refine sn_iload hO 4 rfl dX9_shells_37 ?_
        refine sn_iload_n hO 1 rfl dX9_shells_39 ?_
        refine sn_iload_n hO 2 rfl dX9_shells_40 ?_
        refine sn_callV hO (c2 := 0) (s2 := 0) [.int i9, .int p1, .int p2] cvX9_476 (fun _ => sn_Rv_K atM_0) ctX9_findShells ⟨Nat.le_of_ble_eq_true rfl, Nat.le_of_ble_eq_true rfl⟩ rfl rfl (Nat.le_of_ble_eq_true rfl) ⟨Nat.le_of_ble_eq_true rfl, Nat.le_of_ble_eq_true rfl, rfl, rfl⟩ dX9_shells_41 (sn_bI (fun r12 S13 => ?_)) sn_x0
        refine sn_if_ne hO 53 (by decide) dX9_shells_44 ?_ ?_
        · refine sn_sub [0, 3, 4] rfl ?_
          exact hk7 _ _
        · refine sn_iinc hO (lv' := [(4, .int (i9 + 1)), (0, .ref (w.2.2.1 0)), (1, .int p1), (2, .int p2), (3, .int p3)]) 4 rfl ki_1 (by decide) rfl dX9_shells_47 ?_
          refine sn_goto hO 36 (by decide) dX9_shells_50 ?_
          refine sn_sub [1, 2, 3, 4, 0] rfl ?_
          exact hrc11 _ _
    · refine sn_iconst hO kc_m1 dX9_shells_29 ?_
      subst hQq
      exact sn_iret hO rfl dX9_shells_30
theorem ctX9_shells {w : sn_W} {p1 : Int32} {p2 : Int32} {p3 : Int32} {S : sn_S} {Q : Int32 → sn_S → Prop} (h : wpX9_shells p1 p2 p3 S Q) : sn_Ct LoM w yX9_shells (ws_ yX9_shells cX9_shells 5 (some .int)) rmX9_shells [.ref (w.2.2.1 0), .int p1, .int p2, .int p3] S (sn_qI Q) sn_noE := sn_Ct_of (LoM_X w) (by decide) (Nat.le_of_ble_eq_true rfl) RX9 rfl (fun C hO => wkX9_shells hO p1 p2 p3 S Q h)
def rmX9_cross : Room := { frames := 2, cells := 0, slots := 0, locals := 46 }
/-- SnailPostModel.cross(II)I -/
def wpX9_cross (p1 : Int32) (p2 : Int32) (S : sn_S) (Q : Int32 → sn_S → Prop) : Prop :=
  sn_lt (sn_pI S 0 0 0) (fun S1 => wpX9_isSnail p1 S1 (fun (r2 : Int32) => sn_jn (κ := Prop) (wpX9_isSnail p1 S1 (fun (r4 : Int32) => sn_jn (κ := Prop) (sn_jn (fun (v6 : Int32) => wpX9_tell v6 S1 (fun (r8 : Int32) (S9 : sn_S) => Q r8 S9)) (fun (k7 : Int32 → Prop) => ((¬ p1 = p2 → k7 (-2)) ∧ (p1 = p2 → k7 (-1))))) (fun (k5 : Prop) => ((r4 = 0 → k5) ∧ (¬ r4 = 0 → wpX9_isSnail p2 S1 (fun (r10 : Int32) => ((¬ r10 = 0 → (vp_in 4 5680 ∧ sn_lt (S1.1 2 (4 : Int32).toNatClampNeg) (fun x11 => ((¬ x11 = 12 → (vp_in (52 + (2 * x11)) 5680 ∧ sn_lt (sn_pI S1 2 ((52 + (2 * x11))).toNatClampNeg p1) (fun S12 => (vp_in ((52 + (2 * x11)) + 1) 5680 ∧ sn_lt (sn_pI S12 2 (((52 + (2 * x11)) + 1)).toNatClampNeg p2) (fun S13 => (vp_in 4 5680 ∧ (vp_in 4 5680 ∧ sn_lt (sn_pI S13 2 (4 : Int32).toNatClampNeg ((S13.1 2 (4 : Int32).toNatClampNeg) + 1)) (fun S14 => wpX9_tell (x11 + 1) S14 (fun (r15 : Int32) (S16 : sn_S) => Q r15 S16))))))))) ∧ (x11 = 12 → wpX9_tell (-5) S1 (fun (r17 : Int32) (S18 : sn_S) => Q r17 S18)))))) ∧ (r10 = 0 → k5)))))))) (fun (k3 : Prop) => ((r2 = 0 → k3) ∧ (¬ r2 = 0 → ((¬ p1 = p2 → k3) ∧ (p1 = p2 → wpX9_tell (-1) S1 (fun (r19 : Int32) (S20 : sn_S) => Q r19 S20))))))))
theorem wkX9_cross {w : sn_W} {C : sn_C} (hO : sn_Ok LoM w C RX9 cX9_cross 4 (some .int) [] "cross") (p1 : Int32) (p2 : Int32) (S : sn_S) (Q : Int32 → sn_S → Prop) : wpX9_cross p1 p2 S Q → sn_G LoM w rmX9_cross (sn_qI Q) sn_noE C 0 0 0 [(0, .ref (w.2.2.1 0)), (1, .int p1), (2, .int p2)] [] S := by
  unfold wpX9_cross
  generalize hQq : (sn_qI Q) = Qq
  refine sn_aload_n hO 0 rfl dX9_cross_0 ?_
  refine sn_iconst hO kc_0 dX9_cross_1 ?_
  refine sn_putI hO fmX9_150 atM_0 rfl rfl dX9_cross_2 ?_
  refine sn_nmS (fun S1 => ?_)
  refine sn_aload_n hO 0 rfl dX9_cross_5 ?_
  refine sn_iload_n hO 1 rfl dX9_cross_6 ?_
  refine sn_callV hO (c2 := 0) (s2 := 0) [.int p1] cvX9_197 (fun _ => sn_Rv_K atM_0) ctX9_isSnail ⟨Nat.le_of_ble_eq_true rfl, Nat.le_of_ble_eq_true rfl⟩ rfl rfl (Nat.le_of_ble_eq_true rfl) ⟨Nat.le_of_ble_eq_true rfl, Nat.le_of_ble_eq_true rfl, rfl, rfl⟩ dX9_cross_7 (sn_bIp (fun r2 => ?_)) sn_x0
  refine sn_jn_walk (fun (k : Prop) => k → sn_G LoM w rmX9_cross Qq sn_noE C 0 0 24 [(0, .ref (w.2.2.1 0)), (1, .int p1), (2, .int p2)] [] S1) ?_ ?_
  · refine sn_aload_n hO 0 rfl dX9_cross_24 ?_
    refine sn_iload_n hO 1 rfl dX9_cross_25 ?_
    refine sn_callV hO (c2 := 0) (s2 := 0) [.int p1] cvX9_197 (fun _ => sn_Rv_K atM_0) ctX9_isSnail ⟨Nat.le_of_ble_eq_true rfl, Nat.le_of_ble_eq_true rfl⟩ rfl rfl (Nat.le_of_ble_eq_true rfl) ⟨Nat.le_of_ble_eq_true rfl, Nat.le_of_ble_eq_true rfl, rfl, rfl⟩ dX9_cross_26 (sn_bIp (fun r4 => ?_)) sn_x0
    refine sn_jn_walk (fun (k : Prop) => k → sn_G LoM w rmX9_cross Qq sn_noE C 0 0 40 [(0, .ref (w.2.2.1 0)), (1, .int p1), (2, .int p2)] [] S1) ?_ ?_
    · refine sn_aload_n hO 0 rfl dX9_cross_40 ?_
      refine sn_iload_n hO 1 rfl dX9_cross_41 ?_
      refine sn_iload_n hO 2 rfl dX9_cross_42 ?_
      refine sn_jn_walk (fun (k : Int32 → Prop) => ∀ (v6 : Int32), k v6 → sn_G LoM w rmX9_cross Qq sn_noE C 0 0 52 [] [.int v6, .ref (w.2.2.1 0)] S1) ?_ ?_
      · intro v6
        refine sn_callV hO (c2 := 0) (s2 := 0) [.int v6] cvX9_164 (fun _ => sn_Rv_K atM_0) ctX9_tell ⟨Nat.le_of_ble_eq_true rfl, Nat.le_of_ble_eq_true rfl⟩ rfl rfl (Nat.le_of_ble_eq_true rfl) ⟨Nat.le_of_ble_eq_true rfl, Nat.le_of_ble_eq_true rfl, rfl, rfl⟩ dX9_cross_52 (sn_bI (fun r8 S9 => ?_)) sn_x0
        subst hQq
        exact sn_iret hO rfl dX9_cross_55
      · intro k7 hk7
        refine sn_icmp_ne hO 50 (by decide) dX9_cross_43 ?_ ?_
        · refine sn_bipush hO kb_m2 dX9_cross_50 ?_
          refine sn_sub [] rfl ?_
          exact hk7 _
        · refine sn_iconst hO kc_m1 dX9_cross_46 ?_
          refine sn_goto hO 52 (by decide) dX9_cross_47 ?_
          refine sn_sub [] rfl ?_
          exact hk7 _
    · intro k5 hk5
      refine sn_if_eq hO 40 (by decide) dX9_cross_29 ?_ ?_
      · exact hk5
      · refine sn_aload_n hO 0 rfl dX9_cross_32 ?_
        refine sn_iload_n hO 2 rfl dX9_cross_33 ?_
        refine sn_callV hO (c2 := 0) (s2 := 0) [.int p2] cvX9_197 (fun _ => sn_Rv_K atM_0) ctX9_isSnail ⟨Nat.le_of_ble_eq_true rfl, Nat.le_of_ble_eq_true rfl⟩ rfl rfl (Nat.le_of_ble_eq_true rfl) ⟨Nat.le_of_ble_eq_true rfl, Nat.le_of_ble_eq_true rfl, rfl, rfl⟩ dX9_cross_34 (sn_bIp (fun r10 => ?_)) sn_x0
        refine sn_if_ne hO 56 (by decide) dX9_cross_37 ?_ ?_
        · refine sn_aload_n hO 0 rfl dX9_cross_56 ?_
          refine sn_getF hO fmX9_13 atM_0 dX9_cross_57 ?_
          refine sn_iconst hO kc_4 dX9_cross_60 ?_
          refine sn_iald hO atM_2 rfl dX9_cross_61 ?_
          refine sn_nmI (fun x11 => ?_)
          refine sn_istore_n hO (lv' := [(3, .int x11), (0, .ref (w.2.2.1 0)), (1, .int p1), (2, .int p2)]) (by decide) rfl dX9_cross_62 ?_
          refine sn_iload_n hO 0 rfl dX9_cross_63 ?_
          refine sn_bipush hO kb_12 dX9_cross_64 ?_
          refine sn_icmp_ne hO 76 (by decide) dX9_cross_66 ?_ ?_
          · refine sn_aload_n hO 1 rfl dX9_cross_76 ?_
            refine sn_getF hO fmX9_13 atM_0 dX9_cross_77 ?_
            refine sn_bipush hO kb_52 dX9_cross_80 ?_
            refine sn_iconst hO kc_2 dX9_cross_82 ?_
            refine sn_iload_n hO 0 rfl dX9_cross_83 ?_
            refine sn_imul hO dX9_cross_84 ?_
            refine sn_iadd hO dX9_cross_85 ?_
            refine sn_iload_n hO 2 rfl dX9_cross_86 ?_
            refine sn_iast hO atM_2 rfl dX9_cross_87 ?_
            refine sn_nmS (fun S12 => ?_)
            refine sn_aload_n hO 1 rfl dX9_cross_88 ?_
            refine sn_getF hO fmX9_13 atM_0 dX9_cross_89 ?_
            refine sn_bipush hO kb_52 dX9_cross_92 ?_
            refine sn_iconst hO kc_2 dX9_cross_94 ?_
            refine sn_iload_n hO 0 rfl dX9_cross_95 ?_
            refine sn_imul hO dX9_cross_96 ?_
            refine sn_iadd hO dX9_cross_97 ?_
            refine sn_iconst hO kc_1 dX9_cross_98 ?_
            refine sn_iadd hO dX9_cross_99 ?_
            refine sn_iload_n hO 3 rfl dX9_cross_100 ?_
            refine sn_iast hO atM_2 rfl dX9_cross_101 ?_
            refine sn_nmS (fun S13 => ?_)
            refine sn_aload_n hO 1 rfl dX9_cross_102 ?_
            refine sn_getF hO fmX9_13 atM_0 dX9_cross_103 ?_
            refine sn_iconst hO kc_4 dX9_cross_106 ?_
            refine sn_dup2 hO rfl rfl dX9_cross_107 ?_
            refine sn_iald hO atM_2 rfl dX9_cross_108 ?_
            refine sn_iconst hO kc_1 dX9_cross_109 ?_
            refine sn_iadd hO dX9_cross_110 ?_
            refine sn_iast hO atM_2 rfl dX9_cross_111 ?_
            refine sn_nmS (fun S14 => ?_)
            refine sn_aload_n hO 1 rfl dX9_cross_112 ?_
            refine sn_iload_n hO 0 rfl dX9_cross_113 ?_
            refine sn_iconst hO kc_1 dX9_cross_114 ?_
            refine sn_iadd hO dX9_cross_115 ?_
            refine sn_callV hO (c2 := 0) (s2 := 0) [.int (x11 + 1)] cvX9_164 (fun _ => sn_Rv_K atM_0) ctX9_tell ⟨Nat.le_of_ble_eq_true rfl, Nat.le_of_ble_eq_true rfl⟩ rfl rfl (Nat.le_of_ble_eq_true rfl) ⟨Nat.le_of_ble_eq_true rfl, Nat.le_of_ble_eq_true rfl, rfl, rfl⟩ dX9_cross_116 (sn_bI (fun r15 S16 => ?_)) sn_x0
            subst hQq
            exact sn_iret hO rfl dX9_cross_119
          · refine sn_aload_n hO 1 rfl dX9_cross_69 ?_
            refine sn_bipush hO kb_m5 dX9_cross_70 ?_
            refine sn_callV hO (c2 := 0) (s2 := 0) [.int (-5)] cvX9_164 (fun _ => sn_Rv_K atM_0) ctX9_tell ⟨Nat.le_of_ble_eq_true rfl, Nat.le_of_ble_eq_true rfl⟩ rfl rfl (Nat.le_of_ble_eq_true rfl) ⟨Nat.le_of_ble_eq_true rfl, Nat.le_of_ble_eq_true rfl, rfl, rfl⟩ dX9_cross_72 (sn_bI (fun r17 S18 => ?_)) sn_x0
            subst hQq
            exact sn_iret hO rfl dX9_cross_75
        · exact hk5
  · intro k3 hk3
    refine sn_if_eq hO 24 (by decide) dX9_cross_10 ?_ ?_
    · exact hk3
    · refine sn_iload_n hO 1 rfl dX9_cross_13 ?_
      refine sn_iload_n hO 2 rfl dX9_cross_14 ?_
      refine sn_icmp_ne hO 24 (by decide) dX9_cross_15 ?_ ?_
      · exact hk3
      · refine sn_aload_n hO 0 rfl dX9_cross_18 ?_
        refine sn_iconst hO kc_m1 dX9_cross_19 ?_
        refine sn_callV hO (c2 := 0) (s2 := 0) [.int (-1)] cvX9_164 (fun _ => sn_Rv_K atM_0) ctX9_tell ⟨Nat.le_of_ble_eq_true rfl, Nat.le_of_ble_eq_true rfl⟩ rfl rfl (Nat.le_of_ble_eq_true rfl) ⟨Nat.le_of_ble_eq_true rfl, Nat.le_of_ble_eq_true rfl, rfl, rfl⟩ dX9_cross_20 (sn_bI (fun r19 S20 => ?_)) sn_x0
        subst hQq
        exact sn_iret hO rfl dX9_cross_23
theorem ctX9_cross {w : sn_W} {p1 : Int32} {p2 : Int32} {S : sn_S} {Q : Int32 → sn_S → Prop} (h : wpX9_cross p1 p2 S Q) : sn_Ct LoM w yX9_cross (ws_ yX9_cross cX9_cross 4 (some .int)) rmX9_cross [.ref (w.2.2.1 0), .int p1, .int p2] S (sn_qI Q) sn_noE := sn_Ct_of (LoM_X w) (by decide) (Nat.le_of_ble_eq_true rfl) RX9 rfl (fun C hO => wkX9_cross hO p1 p2 S Q h)
def rmX9_drop : Room := { frames := 1, cells := 0, slots := 0, locals := 25 }
/-- SnailPostModel.drop(I)I -/
def wpX9_drop (p1 : Int32) (S : sn_S) (Q : Int32 → sn_S → Prop) : Prop :=
  sn_lt (sn_pI S 0 0 0) (fun S1 => (vp_in 4 5680 ∧ wpX9_in (Int32.toInt64 p1) 0 ((Int32.toInt64 (S1.1 2 (4 : Int32).toNatClampNeg)) - 1) (fun (r2 : Int32) => ((¬ r2 = 0 → sn_lt (52 + (2 * p1)) (fun x3 => sn_jn (fun (S4 : sn_S) => (vp_in 4 5680 ∧ (vp_in 4 5680 ∧ sn_lt (sn_pI S4 2 (4 : Int32).toNatClampNeg ((S4.1 2 (4 : Int32).toNatClampNeg) - 1)) (fun S6 => (vp_in 4 5680 ∧ wpX9_tell (S6.1 2 (4 : Int32).toNatClampNeg) S6 (fun (r7 : Int32) (S8 : sn_S) => Q r7 S8)))))) (fun (k5 : sn_S → Prop) => sn_lp2 (fun (rc11 : Int32 → sn_S → Prop) (i9 : Int32) (S10 : sn_S) => ((74 ≤ i9 → k5 S10) ∧ (¬ 74 ≤ i9 → (vp_in (i9 + 2) 5680 ∧ (vp_in i9 5680 ∧ sn_lt (sn_pI S10 2 (i9).toNatClampNeg (S10.1 2 ((i9 + 2)).toNatClampNeg)) (fun S12 => rc11 (i9 + 1) S12)))))) x3 S1))) ∧ (r2 = 0 → wpX9_tell (-2) S1 (fun (r13 : Int32) (S14 : sn_S) => Q r13 S14))))))
theorem wkX9_drop {w : sn_W} {C : sn_C} (hO : sn_Ok LoM w C RX9 cX9_drop 3 (some .int) [] "drop") (p1 : Int32) (S : sn_S) (Q : Int32 → sn_S → Prop) : wpX9_drop p1 S Q → sn_G LoM w rmX9_drop (sn_qI Q) sn_noE C 0 0 0 [(0, .ref (w.2.2.1 0)), (1, .int p1)] [] S := by
  unfold wpX9_drop
  generalize hQq : (sn_qI Q) = Qq
  refine sn_aload_n hO 0 rfl dX9_drop_0 ?_
  refine sn_iconst hO kc_0 dX9_drop_1 ?_
  refine sn_putI hO fmX9_150 atM_0 rfl rfl dX9_drop_2 ?_
  refine sn_nmS (fun S1 => ?_)
  refine sn_iload_n hO 1 rfl dX9_drop_5 ?_
  refine sn_i2l hO dX9_drop_6 ?_
  refine sn_lconst hO (v := 0) rfl dX9_drop_7 ?_
  refine sn_aload_n hO 0 rfl dX9_drop_8 ?_
  refine sn_getF hO fmX9_13 atM_0 dX9_drop_9 ?_
  refine sn_iconst hO kc_4 dX9_drop_12 ?_
  refine sn_iald hO atM_2 rfl dX9_drop_13 ?_
  refine sn_i2l hO dX9_drop_14 ?_
  refine sn_lconst hO (v := 1) rfl dX9_drop_15 ?_
  refine sn_lsub hO dX9_drop_16 ?_
  refine sn_callS hO (c2 := 0) (s2 := 0) [.long (Int32.toInt64 p1), .long 0, .long ((Int32.toInt64 (S1.1 2 (4 : Int32).toNatClampNeg)) - 1)] csX9_160 ctX9_in ⟨Nat.le_of_ble_eq_true rfl, Nat.le_of_ble_eq_true rfl⟩ rfl rfl (Nat.le_of_ble_eq_true rfl) ⟨Nat.le_of_ble_eq_true rfl, Nat.le_of_ble_eq_true rfl, rfl, rfl⟩ dX9_drop_17 (sn_bIp (fun r2 => ?_)) sn_x0
  refine sn_if_ne hO 30 (by decide) dX9_drop_20 ?_ ?_
  · refine sn_bipush hO kb_52 dX9_drop_30 ?_
    refine sn_iconst hO kc_2 dX9_drop_32 ?_
    refine sn_iload_n hO 1 rfl dX9_drop_33 ?_
    refine sn_imul hO dX9_drop_34 ?_
    refine sn_iadd hO dX9_drop_35 ?_
    refine sn_nmI (fun x3 => ?_)
    refine sn_istore_n hO (lv' := [(2, .int x3), (0, .ref (w.2.2.1 0)), (1, .int p1)]) (by decide) rfl dX9_drop_36 ?_
    refine sn_jn_walk (fun (k : sn_S → Prop) => ∀ (S4 : sn_S), k S4 → sn_G LoM w rmX9_drop Qq sn_noE C 0 0 63 [(0, .ref (w.2.2.1 0))] [] S4) ?_ ?_
    · intro S4
      refine sn_aload_n hO 0 rfl dX9_drop_63 ?_
      refine sn_getF hO fmX9_13 atM_0 dX9_drop_64 ?_
      refine sn_iconst hO kc_4 dX9_drop_67 ?_
      refine sn_dup2 hO rfl rfl dX9_drop_68 ?_
      refine sn_iald hO atM_2 rfl dX9_drop_69 ?_
      refine sn_iconst hO kc_1 dX9_drop_70 ?_
      refine sn_isub hO dX9_drop_71 ?_
      refine sn_iast hO atM_2 rfl dX9_drop_72 ?_
      refine sn_nmS (fun S6 => ?_)
      refine sn_aload_n hO 0 rfl dX9_drop_73 ?_
      refine sn_aload_n hO 0 rfl dX9_drop_74 ?_
      refine sn_getF hO fmX9_13 atM_0 dX9_drop_75 ?_
      refine sn_iconst hO kc_4 dX9_drop_78 ?_
      refine sn_iald hO atM_2 rfl dX9_drop_79 ?_
      refine sn_callV hO (c2 := 0) (s2 := 0) [.int (S6.1 2 (4 : Int32).toNatClampNeg)] cvX9_164 (fun _ => sn_Rv_K atM_0) ctX9_tell ⟨Nat.le_of_ble_eq_true rfl, Nat.le_of_ble_eq_true rfl⟩ rfl rfl (Nat.le_of_ble_eq_true rfl) ⟨Nat.le_of_ble_eq_true rfl, Nat.le_of_ble_eq_true rfl, rfl, rfl⟩ dX9_drop_80 (sn_bI (fun r7 S8 => ?_)) sn_x0
      subst hQq
      exact sn_iret hO rfl dX9_drop_83
    · intro k5 hk5
      refine sn_sub [1, 0] rfl ?_
      refine sn_lp2_walk (Gd := fun (i9 : Int32) (S10 : sn_S) => sn_G LoM w rmX9_drop Qq sn_noE C 0 0 37 [(0, .ref (w.2.2.1 0)), (2, .int i9)] [] S10) ?_ _ _
      intro rc11 hrc11 i9 S10
      refine sn_iload_n hO 1 rfl dX9_drop_37 ?_
      refine sn_bipush hO kb_74 dX9_drop_38 ?_
      refine sn_icmp_ge hO 63 (by decide) dX9_drop_40 ?_ ?_
      · refine sn_sub [0] rfl ?_
        exact hk5 _
      · refine sn_aload_n hO 0 rfl dX9_drop_43 ?_
        refine sn_getF hO fmX9_13 atM_0 dX9_drop_44 ?_
        refine sn_iload_n hO 1 rfl dX9_drop_47 ?_
        refine sn_aload_n hO 0 rfl dX9_drop_48 ?_
        refine sn_getF hO fmX9_13 atM_0 dX9_drop_49 ?_
        refine sn_iload_n hO 1 rfl dX9_drop_52 ?_
        refine sn_iconst hO kc_2 dX9_drop_53 ?_
        refine sn_iadd hO dX9_drop_54 ?_
        refine sn_iald hO atM_2 rfl dX9_drop_55 ?_
        refine sn_iast hO atM_2 rfl dX9_drop_56 ?_
        refine sn_nmS (fun S12 => ?_)
        refine sn_iinc hO (lv' := [(2, .int (i9 + 1)), (0, .ref (w.2.2.1 0))]) 1 rfl ki_1 (by decide) rfl dX9_drop_57 ?_
        refine sn_goto hO 37 (by decide) dX9_drop_60 ?_
        refine sn_sub [1, 0] rfl ?_
        exact hrc11 _ _
  · refine sn_aload_n hO 0 rfl dX9_drop_23 ?_
    refine sn_bipush hO kb_m2 dX9_drop_24 ?_
    refine sn_callV hO (c2 := 0) (s2 := 0) [.int (-2)] cvX9_164 (fun _ => sn_Rv_K atM_0) ctX9_tell ⟨Nat.le_of_ble_eq_true rfl, Nat.le_of_ble_eq_true rfl⟩ rfl rfl (Nat.le_of_ble_eq_true rfl) ⟨Nat.le_of_ble_eq_true rfl, Nat.le_of_ble_eq_true rfl, rfl, rfl⟩ dX9_drop_26 (sn_bI (fun r13 S14 => ?_)) sn_x0
    subst hQq
    exact sn_iret hO rfl dX9_drop_29
theorem ctX9_drop {w : sn_W} {p1 : Int32} {S : sn_S} {Q : Int32 → sn_S → Prop} (h : wpX9_drop p1 S Q) : sn_Ct LoM w yX9_drop (ws_ yX9_drop cX9_drop 3 (some .int)) rmX9_drop [.ref (w.2.2.1 0), .int p1] S (sn_qI Q) sn_noE := sn_Ct_of (LoM_X w) (by decide) (Nat.le_of_ble_eq_true rfl) RX9 rfl (fun C hO => wkX9_drop hO p1 S Q h)
def rmX9_canPass : Room := { frames := 1, cells := 0, slots := 0, locals := 21 }
/-- SnailPostModel.canPass(II)Z -/
def wpX9_canPass (p1 : Int32) (p2 : Int32) (S : sn_S) (Q : Int32 → Prop) : Prop :=
  wpX9_is p2 p1 (fun (r1 : Int32) => sn_jn (fun (v2 : Int32) => sn_lp2 (fun (rc6 : Int32 → Int32 → Prop) (i4 : Int32) (i5 : Int32) => (vp_in 4 5680 ∧ (((S.1 2 (4 : Int32).toNatClampNeg) ≤ i5 → (narrow .boolean (.int i4) = .int i4 ∧ Q i4)) ∧ (¬ (S.1 2 (4 : Int32).toNatClampNeg) ≤ i5 → sn_jn (fun (v7 : Int32) => rc6 v7 (i5 + 1)) (fun (k8 : Int32 → Prop) => sn_jn (κ := Prop) (k8 0) (fun (k9 : Prop) => ((i4 = 0 → k9) ∧ (¬ i4 = 0 → (vp_in (52 + (2 * i5)) 5680 ∧ sn_jn (κ := Prop) (k8 1) (fun (k10 : Prop) => ((¬ (S.1 2 ((52 + (2 * i5))).toNatClampNeg) = p1 → k10) ∧ ((S.1 2 ((52 + (2 * i5))).toNatClampNeg) = p1 → (vp_in ((52 + (2 * i5)) + 1) 5680 ∧ wpX9_is p2 (S.1 2 (((52 + (2 * i5)) + 1)).toNatClampNeg) (fun (r11 : Int32) => ((r11 = 0 → k9) ∧ (¬ r11 = 0 → k10)))))))))))))))) v2 0) (fun (k3 : Int32 → Prop) => ((¬ r1 = 0 → k3 0) ∧ (r1 = 0 → k3 1))))
theorem wkX9_canPass {w : sn_W} {C : sn_C} (hO : sn_Ok LoM w C RX9 cX9_canPass 5 (some .boolean) [] "canPass") (p1 : Int32) (p2 : Int32) (S : sn_S) (Q : Int32 → Prop) : wpX9_canPass p1 p2 S Q → sn_G LoM w rmX9_canPass (sn_qI (fun r S1 => S1 = S ∧ Q r)) sn_noE C 0 0 0 [(0, .ref (w.2.2.1 0)), (1, .int p1), (2, .int p2)] [] S := by
  unfold wpX9_canPass
  generalize hQq : (sn_qI (fun r S1 => S1 = S ∧ Q r)) = Qq
  refine sn_iload_n hO 2 rfl dX9_canPass_0 ?_
  refine sn_iload_n hO 1 rfl dX9_canPass_1 ?_
  refine sn_callS hO (c2 := 0) (s2 := 0) [.int p2, .int p1] csX9_435 ctX9_is ⟨Nat.le_of_ble_eq_true rfl, Nat.le_of_ble_eq_true rfl⟩ rfl rfl (Nat.le_of_ble_eq_true rfl) ⟨Nat.le_of_ble_eq_true rfl, Nat.le_of_ble_eq_true rfl, rfl, rfl⟩ dX9_canPass_2 (sn_bIp (fun r1 => ?_)) sn_x0
  refine sn_jn_walk (fun (k : Int32 → Prop) => ∀ (v2 : Int32), k v2 → sn_G LoM w rmX9_canPass Qq sn_noE C 0 0 13 [(0, .ref (w.2.2.1 0)), (1, .int p1), (2, .int p2)] [.int v2] S) ?_ ?_
  · intro v2
    refine sn_istore_n hO (lv' := [(3, .int v2), (0, .ref (w.2.2.1 0)), (1, .int p1), (2, .int p2)]) (by decide) rfl dX9_canPass_13 ?_
    refine sn_iconst hO kc_0 dX9_canPass_14 ?_
    refine sn_istore hO (lv' := [(4, .int 0), (3, .int v2), (0, .ref (w.2.2.1 0)), (1, .int p1), (2, .int p2)]) (by decide) rfl dX9_canPass_15 ?_
    refine sn_sub [2, 3, 4, 1, 0] rfl ?_
    refine sn_lp2_walk (Gd := fun (i4 : Int32) (i5 : Int32) => sn_G LoM w rmX9_canPass Qq sn_noE C 0 0 17 [(0, .ref (w.2.2.1 0)), (1, .int p1), (2, .int p2), (3, .int i4), (4, .int i5)] [] S) ?_ _ _
    intro rc6 hrc6 i4 i5
    refine sn_iload hO 4 rfl dX9_canPass_17 ?_
    refine sn_aload_n hO 0 rfl dX9_canPass_19 ?_
    refine sn_getF hO fmX9_13 atM_0 dX9_canPass_20 ?_
    refine sn_iconst hO kc_4 dX9_canPass_23 ?_
    refine sn_iald hO atM_2 rfl dX9_canPass_24 ?_
    refine sn_icmp_ge hO 81 (by decide) dX9_canPass_25 ?_ ?_
    · refine sn_iload_n hO 3 rfl dX9_canPass_81 ?_
      subst hQq
      exact fun h => sn_zretP hO rfl dX9_canPass_82 ⟨h.1, rfl, h.2⟩
    · refine sn_iload_n hO 3 rfl dX9_canPass_28 ?_
      refine sn_jn_walk (fun (k : Int32 → Prop) => ∀ (v7 : Int32), k v7 → sn_G LoM w rmX9_canPass Qq sn_noE C 0 0 74 [(0, .ref (w.2.2.1 0)), (1, .int p1), (2, .int p2), (4, .int i5)] [.int v7] S) ?_ ?_
      · intro v7
        refine sn_istore_n hO (lv' := [(3, .int v7), (0, .ref (w.2.2.1 0)), (1, .int p1), (2, .int p2), (4, .int i5)]) (by decide) rfl dX9_canPass_74 ?_
        refine sn_iinc hO (lv' := [(4, .int (i5 + 1)), (3, .int v7), (0, .ref (w.2.2.1 0)), (1, .int p1), (2, .int p2)]) 4 rfl ki_1 (by decide) rfl dX9_canPass_75 ?_
        refine sn_goto hO 17 (by decide) dX9_canPass_78 ?_
        refine sn_sub [2, 3, 4, 1, 0] rfl ?_
        exact hrc6 _ _
      · intro k8 hk8
        refine sn_jn_walk (fun (k : Prop) => k → sn_G LoM w rmX9_canPass Qq sn_noE C 0 0 73 [(0, .ref (w.2.2.1 0)), (1, .int p1), (2, .int p2), (4, .int i5)] [] S) ?_ ?_
        · refine sn_iconst hO kc_0 dX9_canPass_73 ?_
          exact hk8 _
        · intro k9 hk9
          refine sn_if_eq hO 73 (by decide) dX9_canPass_29 ?_ ?_
          · refine sn_sub [0, 1, 2, 4] rfl ?_
            exact hk9
          · refine sn_aload_n hO 0 rfl dX9_canPass_32 ?_
            refine sn_getF hO fmX9_13 atM_0 dX9_canPass_33 ?_
            refine sn_bipush hO kb_52 dX9_canPass_36 ?_
            refine sn_iconst hO kc_2 dX9_canPass_38 ?_
            refine sn_iload hO 4 rfl dX9_canPass_39 ?_
            refine sn_imul hO dX9_canPass_41 ?_
            refine sn_iadd hO dX9_canPass_42 ?_
            refine sn_iald hO atM_2 rfl dX9_canPass_43 ?_
            refine sn_iload_n hO 1 rfl dX9_canPass_44 ?_
            refine sn_jn_walk (fun (k : Prop) => k → sn_G LoM w rmX9_canPass Qq sn_noE C 0 0 69 [(0, .ref (w.2.2.1 0)), (1, .int p1), (2, .int p2), (4, .int i5)] [] S) ?_ ?_
            · refine sn_iconst hO kc_1 dX9_canPass_69 ?_
              refine sn_goto hO 74 (by decide) dX9_canPass_70 ?_
              exact hk8 _
            · intro k10 hk10
              refine sn_icmp_ne hO 69 (by decide) dX9_canPass_45 ?_ ?_
              · refine sn_sub [0, 1, 2, 4] rfl ?_
                exact hk10
              · refine sn_iload_n hO 2 rfl dX9_canPass_48 ?_
                refine sn_aload_n hO 0 rfl dX9_canPass_49 ?_
                refine sn_getF hO fmX9_13 atM_0 dX9_canPass_50 ?_
                refine sn_bipush hO kb_52 dX9_canPass_53 ?_
                refine sn_iconst hO kc_2 dX9_canPass_55 ?_
                refine sn_iload hO 4 rfl dX9_canPass_56 ?_
                refine sn_imul hO dX9_canPass_58 ?_
                refine sn_iadd hO dX9_canPass_59 ?_
                refine sn_iconst hO kc_1 dX9_canPass_60 ?_
                refine sn_iadd hO dX9_canPass_61 ?_
                refine sn_iald hO atM_2 rfl dX9_canPass_62 ?_
                refine sn_callS hO (c2 := 0) (s2 := 0) [.int p2, .int (S.1 2 (((52 + (2 * i5)) + 1)).toNatClampNeg)] csX9_435 ctX9_is ⟨Nat.le_of_ble_eq_true rfl, Nat.le_of_ble_eq_true rfl⟩ rfl rfl (Nat.le_of_ble_eq_true rfl) ⟨Nat.le_of_ble_eq_true rfl, Nat.le_of_ble_eq_true rfl, rfl, rfl⟩ dX9_canPass_63 (sn_bIp (fun r11 => ?_)) sn_x0
                refine sn_if_eq hO 73 (by decide) dX9_canPass_66 ?_ ?_
                · refine sn_sub [0, 1, 2, 4] rfl ?_
                  exact hk9
                · refine sn_sub [0, 1, 2, 4] rfl ?_
                  exact hk10
  · intro k3 hk3
    refine sn_if_ne hO 12 (by decide) dX9_canPass_5 ?_ ?_
    · refine sn_iconst hO kc_0 dX9_canPass_12 ?_
      exact hk3 _
    · refine sn_iconst hO kc_1 dX9_canPass_8 ?_
      refine sn_goto hO 13 (by decide) dX9_canPass_9 ?_
      exact hk3 _
theorem ctX9_canPass {w : sn_W} {p1 : Int32} {p2 : Int32} {S : sn_S} {Q : Int32 → Prop} (h : wpX9_canPass p1 p2 S Q) : sn_Ct LoM w yX9_canPass (ws_ yX9_canPass cX9_canPass 5 (some .boolean)) rmX9_canPass [.ref (w.2.2.1 0), .int p1, .int p2] S (sn_qI (fun r S1 => S1 = S ∧ Q r)) sn_noE := sn_Ct_of (LoM_X w) (by decide) (Nat.le_of_ble_eq_true rfl) RX9 rfl (fun C hO => wkX9_canPass hO p1 p2 S Q h)
def rmX9_findOrders : Room := { frames := 2, cells := 0, slots := 0, locals := 45 }
/-- SnailPostModel.findOrders()V -/
def wpX9_findOrders (S : sn_S) (Q : sn_S → Prop) : Prop :=
  wpX9_allSnails S (fun (r1 : Int32) => sn_jn (fun (S2 : sn_S) => sn_lp2 (fun (rc6 : Int32 → sn_S → Prop) (i4 : Int32) (S5 : sn_S) => ((i4 < 0 → Q S5) ∧ (¬ i4 < 0 → sn_jn (fun (v7 : Int32) => (vp_in i4 64 ∧ sn_lt (sn_pI S5 32 (i4).toNatClampNeg v7) (fun S9 => sn_jn (fun (S10 : sn_S) => rc6 (i4 + (-1)) S10) (fun (k11 : sn_S → Prop) => sn_lp2 (fun (rc14 : Int32 → sn_S → Prop) (i12 : Int32) (S13 : sn_S) => (vp_in 0 5680 ∧ (((S13.1 2 (0 : Int32).toNatClampNeg) ≤ i12 → k11 S13) ∧ (¬ (S13.1 2 (0 : Int32).toNatClampNeg) ≤ i12 → (vp_in i4 64 ∧ wpX9_canPass i12 i4 S13 (fun (r15 : Int32) => sn_jn (fun (v16 : Int32) => (vp_in i4 64 ∧ sn_lt (sn_pI S13 32 (i4).toNatClampNeg ((S13.1 32 (i4).toNatClampNeg) + v16)) (fun S18 => rc14 (i12 + 1) S18))) (fun (k17 : Int32 → Prop) => ((r15 = 0 → k17 0) ∧ (¬ r15 = 0 → (vp_in (i4 ||| (1 <<< (i12 &&& 31))) 64 ∧ k17 (S13.1 32 ((i4 ||| (1 <<< (i12 &&& 31)))).toNatClampNeg))))))))))) 0 S9)))) (fun (k8 : Int32 → Prop) => ((¬ i4 = r1 → k8 0) ∧ (i4 = r1 → k8 1)))))) r1 S2) (fun (k3 : sn_S → Prop) => sn_lp2 (fun (rc21 : Int32 → sn_S → Prop) (i19 : Int32) (S20 : sn_S) => ((r1 < i19 → k3 S20) ∧ (¬ r1 < i19 → sn_jn (fun (v22 : Int32) => (vp_in i19 64 ∧ sn_lt (sn_pI S20 31 (i19).toNatClampNeg v22) (fun S24 => sn_jn (fun (S25 : sn_S) => rc21 (i19 + 1) S25) (fun (k26 : sn_S → Prop) => sn_lp2 (fun (rc29 : Int32 → sn_S → Prop) (i27 : Int32) (S28 : sn_S) => (vp_in 0 5680 ∧ (((S28.1 2 (0 : Int32).toNatClampNeg) ≤ i27 → k26 S28) ∧ (¬ (S28.1 2 (0 : Int32).toNatClampNeg) ≤ i27 → (vp_in i19 64 ∧ wpX9_is i19 i27 (fun (r30 : Int32) => sn_jn (fun (v31 : Int32) => (vp_in i19 64 ∧ sn_lt (sn_pI S28 31 (i19).toNatClampNeg ((S28.1 31 (i19).toNatClampNeg) + v31)) (fun S33 => rc29 (i27 + 1) S33))) (fun (k32 : Int32 → Prop) => sn_jn (κ := Prop) (k32 0) (fun (k34 : Prop) => ((r30 = 0 → k34) ∧ (¬ r30 = 0 → wpX9_canPass i27 (i19 &&& ((1 <<< (i27 &&& 31)) ^^^ (-1))) S28 (fun (r35 : Int32) => ((r35 = 0 → k34) ∧ (¬ r35 = 0 → (vp_in (i19 &&& ((1 <<< (i27 &&& 31)) ^^^ (-1))) 64 ∧ k32 (S28.1 31 ((i19 &&& ((1 <<< (i27 &&& 31)) ^^^ (-1)))).toNatClampNeg))))))))))))))) 0 S24)))) (fun (k23 : Int32 → Prop) => ((¬ i19 = 0 → k23 0) ∧ (i19 = 0 → k23 1)))))) 0 S))
theorem wkX9_findOrders {w : sn_W} {C : sn_C} (hO : sn_Ok LoM w C RX9 cX9_findOrders 4 none [] "findOrders") (S : sn_S) (Q : sn_S → Prop) : wpX9_findOrders S Q → sn_G LoM w rmX9_findOrders (sn_qV Q) sn_noE C 0 0 0 [(0, .ref (w.2.2.1 0))] [] S := by
  unfold wpX9_findOrders
  generalize hQq : (sn_qV Q) = Qq
  refine sn_aload_n hO 0 rfl dX9_findOrders_0 ?_
  refine sn_callV hO (c2 := 0) (s2 := 0) [] cvX9_460 (fun _ => sn_Rv_K atM_0) ctX9_allSnails ⟨Nat.le_of_ble_eq_true rfl, Nat.le_of_ble_eq_true rfl⟩ rfl rfl (Nat.le_of_ble_eq_true rfl) ⟨Nat.le_of_ble_eq_true rfl, Nat.le_of_ble_eq_true rfl, rfl, rfl⟩ dX9_findOrders_1 (sn_bIp (fun r1 => ?_)) sn_x0
  refine sn_istore_n hO (lv' := [(1, .int r1), (0, .ref (w.2.2.1 0))]) (by decide) rfl dX9_findOrders_4 ?_
  refine sn_iconst hO kc_0 dX9_findOrders_5 ?_
  refine sn_istore_n hO (lv' := [(2, .int 0), (1, .int r1), (0, .ref (w.2.2.1 0))]) (by decide) rfl dX9_findOrders_6 ?_
  refine sn_jn_walk (fun (k : sn_S → Prop) => ∀ (S2 : sn_S), k S2 → sn_G LoM w rmX9_findOrders Qq sn_noE C 0 0 99 [(0, .ref (w.2.2.1 0)), (1, .int r1)] [] S2) ?_ ?_
  · intro S2
    refine sn_iload_n hO 1 rfl dX9_findOrders_99 ?_
    refine sn_istore_n hO (lv' := [(2, .int r1), (0, .ref (w.2.2.1 0)), (1, .int r1)]) (by decide) rfl dX9_findOrders_100 ?_
    refine sn_sub [1, 2, 0] rfl ?_
    refine sn_lp2_walk (Gd := fun (i4 : Int32) (S5 : sn_S) => sn_G LoM w rmX9_findOrders Qq sn_noE C 0 0 101 [(0, .ref (w.2.2.1 0)), (1, .int r1), (2, .int i4)] [] S5) ?_ _ _
    intro rc6 hrc6 i4 S5
    refine sn_iload_n hO 2 rfl dX9_findOrders_101 ?_
    refine sn_if_lt hO 177 (by decide) dX9_findOrders_102 ?_ ?_
    · subst hQq
      exact sn_vret hO rfl dX9_findOrders_177
    · refine sn_aload_n hO 0 rfl dX9_findOrders_105 ?_
      refine sn_getF hO fmX9_135 atM_0 dX9_findOrders_106 ?_
      refine sn_iload_n hO 2 rfl dX9_findOrders_109 ?_
      refine sn_iload_n hO 2 rfl dX9_findOrders_110 ?_
      refine sn_iload_n hO 1 rfl dX9_findOrders_111 ?_
      refine sn_jn_walk (fun (k : Int32 → Prop) => ∀ (v7 : Int32), k v7 → sn_G LoM w rmX9_findOrders Qq sn_noE C 0 0 120 [(0, .ref (w.2.2.1 0)), (1, .int r1), (2, .int i4)] [.int v7, .int i4, .ref (w.2.2.1 32)] S5) ?_ ?_
      · intro v7
        refine sn_iast hO atM_32 rfl dX9_findOrders_120 ?_
        refine sn_nmS (fun S9 => ?_)
        refine sn_iconst hO kc_0 dX9_findOrders_121 ?_
        refine sn_istore_n hO (lv' := [(3, .int 0), (0, .ref (w.2.2.1 0)), (1, .int r1), (2, .int i4)]) (by decide) rfl dX9_findOrders_122 ?_
        refine sn_jn_walk (fun (k : sn_S → Prop) => ∀ (S10 : sn_S), k S10 → sn_G LoM w rmX9_findOrders Qq sn_noE C 0 0 171 [(0, .ref (w.2.2.1 0)), (1, .int r1), (2, .int i4)] [] S10) ?_ ?_
        · intro S10
          refine sn_iinc hO (lv' := [(2, .int (i4 + (-1))), (0, .ref (w.2.2.1 0)), (1, .int r1)]) 2 rfl ki_m1 (by decide) rfl dX9_findOrders_171 ?_
          refine sn_goto hO 101 (by decide) dX9_findOrders_174 ?_
          refine sn_sub [1, 2, 0] rfl ?_
          exact hrc6 _ _
        · intro k11 hk11
          refine sn_sub [1, 2, 3, 0] rfl ?_
          refine sn_lp2_walk (Gd := fun (i12 : Int32) (S13 : sn_S) => sn_G LoM w rmX9_findOrders Qq sn_noE C 0 0 123 [(0, .ref (w.2.2.1 0)), (1, .int r1), (2, .int i4), (3, .int i12)] [] S13) ?_ _ _
          intro rc14 hrc14 i12 S13
          refine sn_iload_n hO 3 rfl dX9_findOrders_123 ?_
          refine sn_aload_n hO 0 rfl dX9_findOrders_124 ?_
          refine sn_getF hO fmX9_13 atM_0 dX9_findOrders_125 ?_
          refine sn_iconst hO kc_0 dX9_findOrders_128 ?_
          refine sn_iald hO atM_2 rfl dX9_findOrders_129 ?_
          refine sn_icmp_ge hO 171 (by decide) dX9_findOrders_130 ?_ ?_
          · refine sn_sub [0, 1, 2] rfl ?_
            exact hk11 _
          · refine sn_aload_n hO 0 rfl dX9_findOrders_133 ?_
            refine sn_getF hO fmX9_135 atM_0 dX9_findOrders_134 ?_
            refine sn_iload_n hO 2 rfl dX9_findOrders_137 ?_
            refine sn_dup2 hO rfl rfl dX9_findOrders_138 ?_
            refine sn_iald hO atM_32 rfl dX9_findOrders_139 ?_
            refine sn_aload_n hO 0 rfl dX9_findOrders_140 ?_
            refine sn_iload_n hO 3 rfl dX9_findOrders_141 ?_
            refine sn_iload_n hO 2 rfl dX9_findOrders_142 ?_
            refine sn_callV hO (c2 := 0) (s2 := 0) [.int i12, .int i4] cvX9_479 (fun _ => sn_Rv_K atM_0) ctX9_canPass ⟨Nat.le_of_ble_eq_true rfl, Nat.le_of_ble_eq_true rfl⟩ rfl rfl (Nat.le_of_ble_eq_true rfl) ⟨Nat.le_of_ble_eq_true rfl, Nat.le_of_ble_eq_true rfl, rfl, rfl⟩ dX9_findOrders_143 (sn_bIp (fun r15 => ?_)) sn_x0
            refine sn_jn_walk (fun (k : Int32 → Prop) => ∀ (v16 : Int32), k v16 → sn_G LoM w rmX9_findOrders Qq sn_noE C 0 0 163 [(0, .ref (w.2.2.1 0)), (1, .int r1), (2, .int i4), (3, .int i12)] [.int v16, .int (S13.1 32 (i4).toNatClampNeg), .int i4, .ref (w.2.2.1 32)] S13) ?_ ?_
            · intro v16
              refine sn_iadd hO dX9_findOrders_163 ?_
              refine sn_iast hO atM_32 rfl dX9_findOrders_164 ?_
              refine sn_nmS (fun S18 => ?_)
              refine sn_iinc hO (lv' := [(3, .int (i12 + 1)), (0, .ref (w.2.2.1 0)), (1, .int r1), (2, .int i4)]) 3 rfl ki_1 (by decide) rfl dX9_findOrders_165 ?_
              refine sn_goto hO 123 (by decide) dX9_findOrders_168 ?_
              refine sn_sub [1, 2, 3, 0] rfl ?_
              exact hrc14 _ _
            · intro k17 hk17
              refine sn_if_eq hO 162 (by decide) dX9_findOrders_146 ?_ ?_
              · refine sn_iconst hO kc_0 dX9_findOrders_162 ?_
                exact hk17 _
              · refine sn_aload_n hO 0 rfl dX9_findOrders_149 ?_
                refine sn_getF hO fmX9_135 atM_0 dX9_findOrders_150 ?_
                refine sn_iload_n hO 2 rfl dX9_findOrders_153 ?_
                refine sn_iconst hO kc_1 dX9_findOrders_154 ?_
                refine sn_iload_n hO 3 rfl dX9_findOrders_155 ?_
                refine sn_ishl hO dX9_findOrders_156 ?_
                refine sn_ior hO dX9_findOrders_157 ?_
                refine sn_iald hO atM_32 rfl dX9_findOrders_158 ?_
                refine sn_goto hO 163 (by decide) dX9_findOrders_159 ?_
                exact hk17 _
      · intro k8 hk8
        refine sn_icmp_ne hO 119 (by decide) dX9_findOrders_112 ?_ ?_
        · refine sn_iconst hO kc_0 dX9_findOrders_119 ?_
          exact hk8 _
        · refine sn_iconst hO kc_1 dX9_findOrders_115 ?_
          refine sn_goto hO 120 (by decide) dX9_findOrders_116 ?_
          exact hk8 _
  · intro k3 hk3
    refine sn_sub [2, 1, 0] rfl ?_
    refine sn_lp2_walk (Gd := fun (i19 : Int32) (S20 : sn_S) => sn_G LoM w rmX9_findOrders Qq sn_noE C 0 0 7 [(0, .ref (w.2.2.1 0)), (1, .int r1), (2, .int i19)] [] S20) ?_ _ _
    intro rc21 hrc21 i19 S20
    refine sn_iload_n hO 2 rfl dX9_findOrders_7 ?_
    refine sn_iload_n hO 1 rfl dX9_findOrders_8 ?_
    refine sn_icmp_gt hO 99 (by decide) dX9_findOrders_9 ?_ ?_
    · refine sn_sub [0, 1] rfl ?_
      exact hk3 _
    · refine sn_aload_n hO 0 rfl dX9_findOrders_12 ?_
      refine sn_getF hO fmX9_132 atM_0 dX9_findOrders_13 ?_
      refine sn_iload_n hO 2 rfl dX9_findOrders_16 ?_
      refine sn_iload_n hO 2 rfl dX9_findOrders_17 ?_
      refine sn_jn_walk (fun (k : Int32 → Prop) => ∀ (v22 : Int32), k v22 → sn_G LoM w rmX9_findOrders Qq sn_noE C 0 0 26 [(0, .ref (w.2.2.1 0)), (1, .int r1), (2, .int i19)] [.int v22, .int i19, .ref (w.2.2.1 31)] S20) ?_ ?_
      · intro v22
        refine sn_iast hO atM_31 rfl dX9_findOrders_26 ?_
        refine sn_nmS (fun S24 => ?_)
        refine sn_iconst hO kc_0 dX9_findOrders_27 ?_
        refine sn_istore_n hO (lv' := [(3, .int 0), (0, .ref (w.2.2.1 0)), (1, .int r1), (2, .int i19)]) (by decide) rfl dX9_findOrders_28 ?_
        refine sn_jn_walk (fun (k : sn_S → Prop) => ∀ (S25 : sn_S), k S25 → sn_G LoM w rmX9_findOrders Qq sn_noE C 0 0 93 [(0, .ref (w.2.2.1 0)), (1, .int r1), (2, .int i19)] [] S25) ?_ ?_
        · intro S25
          refine sn_iinc hO (lv' := [(2, .int (i19 + 1)), (0, .ref (w.2.2.1 0)), (1, .int r1)]) 2 rfl ki_1 (by decide) rfl dX9_findOrders_93 ?_
          refine sn_goto hO 7 (by decide) dX9_findOrders_96 ?_
          refine sn_sub [1, 2, 0] rfl ?_
          exact hrc21 _ _
        · intro k26 hk26
          refine sn_sub [1, 2, 3, 0] rfl ?_
          refine sn_lp2_walk (Gd := fun (i27 : Int32) (S28 : sn_S) => sn_G LoM w rmX9_findOrders Qq sn_noE C 0 0 29 [(0, .ref (w.2.2.1 0)), (1, .int r1), (2, .int i19), (3, .int i27)] [] S28) ?_ _ _
          intro rc29 hrc29 i27 S28
          refine sn_iload_n hO 3 rfl dX9_findOrders_29 ?_
          refine sn_aload_n hO 0 rfl dX9_findOrders_30 ?_
          refine sn_getF hO fmX9_13 atM_0 dX9_findOrders_31 ?_
          refine sn_iconst hO kc_0 dX9_findOrders_34 ?_
          refine sn_iald hO atM_2 rfl dX9_findOrders_35 ?_
          refine sn_icmp_ge hO 93 (by decide) dX9_findOrders_36 ?_ ?_
          · refine sn_sub [0, 1, 2] rfl ?_
            exact hk26 _
          · refine sn_aload_n hO 0 rfl dX9_findOrders_39 ?_
            refine sn_getF hO fmX9_132 atM_0 dX9_findOrders_40 ?_
            refine sn_iload_n hO 2 rfl dX9_findOrders_43 ?_
            refine sn_dup2 hO rfl rfl dX9_findOrders_44 ?_
            refine sn_iald hO atM_31 rfl dX9_findOrders_45 ?_
            refine sn_iload_n hO 2 rfl dX9_findOrders_46 ?_
            refine sn_iload_n hO 3 rfl dX9_findOrders_47 ?_
            refine sn_callS hO (c2 := 0) (s2 := 0) [.int i19, .int i27] csX9_435 ctX9_is ⟨Nat.le_of_ble_eq_true rfl, Nat.le_of_ble_eq_true rfl⟩ rfl rfl (Nat.le_of_ble_eq_true rfl) ⟨Nat.le_of_ble_eq_true rfl, Nat.le_of_ble_eq_true rfl, rfl, rfl⟩ dX9_findOrders_48 (sn_bIp (fun r30 => ?_)) sn_x0
            refine sn_jn_walk (fun (k : Int32 → Prop) => ∀ (v31 : Int32), k v31 → sn_G LoM w rmX9_findOrders Qq sn_noE C 0 0 85 [(0, .ref (w.2.2.1 0)), (1, .int r1), (2, .int i19), (3, .int i27)] [.int v31, .int (S28.1 31 (i19).toNatClampNeg), .int i19, .ref (w.2.2.1 31)] S28) ?_ ?_
            · intro v31
              refine sn_iadd hO dX9_findOrders_85 ?_
              refine sn_iast hO atM_31 rfl dX9_findOrders_86 ?_
              refine sn_nmS (fun S33 => ?_)
              refine sn_iinc hO (lv' := [(3, .int (i27 + 1)), (0, .ref (w.2.2.1 0)), (1, .int r1), (2, .int i19)]) 3 rfl ki_1 (by decide) rfl dX9_findOrders_87 ?_
              refine sn_goto hO 29 (by decide) dX9_findOrders_90 ?_
              refine sn_sub [1, 2, 3, 0] rfl ?_
              exact hrc29 _ _
            · intro k32 hk32
              refine sn_jn_walk (fun (k : Prop) => k → sn_G LoM w rmX9_findOrders Qq sn_noE C 0 0 84 [(0, .ref (w.2.2.1 0)), (1, .int r1), (2, .int i19), (3, .int i27)] [.int (S28.1 31 (i19).toNatClampNeg), .int i19, .ref (w.2.2.1 31)] S28) ?_ ?_
              · refine sn_iconst hO kc_0 dX9_findOrders_84 ?_
                exact hk32 _
              · intro k34 hk34
                refine sn_if_eq hO 84 (by decide) dX9_findOrders_51 ?_ ?_
                · exact hk34
                · refine sn_aload_n hO 0 rfl dX9_findOrders_54 ?_
                  refine sn_iload_n hO 3 rfl dX9_findOrders_55 ?_
                  refine sn_iload_n hO 2 rfl dX9_findOrders_56 ?_
                  refine sn_iconst hO kc_1 dX9_findOrders_57 ?_
                  refine sn_iload_n hO 3 rfl dX9_findOrders_58 ?_
                  refine sn_ishl hO dX9_findOrders_59 ?_
                  refine sn_iconst hO kc_m1 dX9_findOrders_60 ?_
                  refine sn_ixor hO dX9_findOrders_61 ?_
                  refine sn_iand hO dX9_findOrders_62 ?_
                  refine sn_callV hO (c2 := 0) (s2 := 0) [.int i27, .int (i19 &&& ((1 <<< (i27 &&& 31)) ^^^ (-1)))] cvX9_479 (fun _ => sn_Rv_K atM_0) ctX9_canPass ⟨Nat.le_of_ble_eq_true rfl, Nat.le_of_ble_eq_true rfl⟩ rfl rfl (Nat.le_of_ble_eq_true rfl) ⟨Nat.le_of_ble_eq_true rfl, Nat.le_of_ble_eq_true rfl, rfl, rfl⟩ dX9_findOrders_63 (sn_bIp (fun r35 => ?_)) sn_x0
                  refine sn_if_eq hO 84 (by decide) dX9_findOrders_66 ?_ ?_
                  · exact hk34
                  · refine sn_aload_n hO 0 rfl dX9_findOrders_69 ?_
                    refine sn_getF hO fmX9_132 atM_0 dX9_findOrders_70 ?_
                    refine sn_iload_n hO 2 rfl dX9_findOrders_73 ?_
                    refine sn_iconst hO kc_1 dX9_findOrders_74 ?_
                    refine sn_iload_n hO 3 rfl dX9_findOrders_75 ?_
                    refine sn_ishl hO dX9_findOrders_76 ?_
                    refine sn_iconst hO kc_m1 dX9_findOrders_77 ?_
                    refine sn_ixor hO dX9_findOrders_78 ?_
                    refine sn_iand hO dX9_findOrders_79 ?_
                    refine sn_iald hO atM_31 rfl dX9_findOrders_80 ?_
                    refine sn_goto hO 85 (by decide) dX9_findOrders_81 ?_
                    exact hk32 _
      · intro k23 hk23
        refine sn_if_ne hO 25 (by decide) dX9_findOrders_18 ?_ ?_
        · refine sn_iconst hO kc_0 dX9_findOrders_25 ?_
          exact hk23 _
        · refine sn_iconst hO kc_1 dX9_findOrders_21 ?_
          refine sn_goto hO 26 (by decide) dX9_findOrders_22 ?_
          exact hk23 _
theorem ctX9_findOrders {w : sn_W} {S : sn_S} {Q : sn_S → Prop} (h : wpX9_findOrders S Q) : sn_Ct LoM w yX9_findOrders (ws_ yX9_findOrders cX9_findOrders 4 none) rmX9_findOrders [.ref (w.2.2.1 0)] S (sn_qV Q) sn_noE := sn_Ct_of (LoM_X w) (by decide) (Nat.le_of_ble_eq_true rfl) RX9 rfl (fun C hO => wkX9_findOrders hO S Q h)
def rmX9_orders : Room := { frames := 3, cells := 0, slots := 0, locals := 68 }
/-- SnailPostModel.orders(I)I -/
def wpX9_orders (p1 : Int32) (S : sn_S) (Q : Int32 → sn_S → Prop) : Prop :=
  sn_lt (sn_pI S 0 0 0) (fun S1 => wpX9_findOrders S1 (fun (S2 : sn_S) => ((¬ p1 = (-1) → (vp_in 0 5680 ∧ wpX9_in (Int32.toInt64 p1) 0 ((Int32.toInt64 (S2.1 2 (0 : Int32).toNatClampNeg)) - 1) (fun (r3 : Int32) => ((r3 = 0 → Q (-1) S2) ∧ (¬ r3 = 0 → (vp_in 0 64 ∧ ((¬ (S2.1 32 (0 : Int32).toNatClampNeg) = 0 → sn_lp3 (fun (rc7 : Int32 → Int32 → Int32 → Prop) (i4 : Int32) (i5 : Int32) (i6 : Int32) => ((p1 < i6 → Q i5 S2) ∧ (¬ p1 < i6 → sn_jn (fun (v8 : Int32) => sn_lt (i4 ||| (1 <<< (v8 &&& 31))) (fun x10 => rc7 x10 v8 (i6 + 1))) (fun (k9 : Int32 → Prop) => sn_lp1 (fun (rc12 : Int32 → Prop) (i11 : Int32) => wpX9_canPass i11 i4 S2 (fun (r13 : Int32) => sn_jn (κ := Prop) (rc12 (i11 + 1)) (fun (k14 : Prop) => ((r13 = 0 → k14) ∧ (¬ r13 = 0 → (vp_in (i4 ||| (1 <<< (i11 &&& 31))) 64 ∧ ((¬ (S2.1 32 ((i4 ||| (1 <<< (i11 &&& 31)))).toNatClampNeg) = 0 → k9 i11) ∧ ((S2.1 32 ((i4 ||| (1 <<< (i11 &&& 31)))).toNatClampNeg) = 0 → k14)))))))) 0)))) 0 (-1) 0) ∧ ((S2.1 32 (0 : Int32).toNatClampNeg) = 0 → Q (-1) S2)))))))) ∧ (p1 = (-1) → (vp_in 0 64 ∧ Q (S2.1 32 (0 : Int32).toNatClampNeg) S2)))))
theorem wkX9_orders {w : sn_W} {C : sn_C} (hO : sn_Ok LoM w C RX9 cX9_orders 5 (some .int) [] "orders") (p1 : Int32) (S : sn_S) (Q : Int32 → sn_S → Prop) : wpX9_orders p1 S Q → sn_G LoM w rmX9_orders (sn_qI Q) sn_noE C 0 0 0 [(0, .ref (w.2.2.1 0)), (1, .int p1)] [] S := by
  unfold wpX9_orders
  generalize hQq : (sn_qI Q) = Qq
  refine sn_aload_n hO 0 rfl dX9_orders_0 ?_
  refine sn_iconst hO kc_0 dX9_orders_1 ?_
  refine sn_putI hO fmX9_150 atM_0 rfl rfl dX9_orders_2 ?_
  refine sn_nmS (fun S1 => ?_)
  refine sn_aload_n hO 0 rfl dX9_orders_5 ?_
  refine sn_callV hO (c2 := 0) (s2 := 0) [] cvX9_482 (fun _ => sn_Rv_K atM_0) ctX9_findOrders ⟨Nat.le_of_ble_eq_true rfl, Nat.le_of_ble_eq_true rfl⟩ rfl rfl (Nat.le_of_ble_eq_true rfl) ⟨Nat.le_of_ble_eq_true rfl, Nat.le_of_ble_eq_true rfl, rfl, rfl⟩ dX9_orders_6 (sn_bV (fun S2 => ?_)) sn_x0
  refine sn_iload_n hO 1 rfl dX9_orders_9 ?_
  refine sn_iconst hO kc_m1 dX9_orders_10 ?_
  refine sn_icmp_ne hO 21 (by decide) dX9_orders_11 ?_ ?_
  · refine sn_iload_n hO 1 rfl dX9_orders_21 ?_
    refine sn_i2l hO dX9_orders_22 ?_
    refine sn_lconst hO (v := 0) rfl dX9_orders_23 ?_
    refine sn_aload_n hO 0 rfl dX9_orders_24 ?_
    refine sn_getF hO fmX9_13 atM_0 dX9_orders_25 ?_
    refine sn_iconst hO kc_0 dX9_orders_28 ?_
    refine sn_iald hO atM_2 rfl dX9_orders_29 ?_
    refine sn_i2l hO dX9_orders_30 ?_
    refine sn_lconst hO (v := 1) rfl dX9_orders_31 ?_
    refine sn_lsub hO dX9_orders_32 ?_
    refine sn_callS hO (c2 := 0) (s2 := 0) [.long (Int32.toInt64 p1), .long 0, .long ((Int32.toInt64 (S2.1 2 (0 : Int32).toNatClampNeg)) - 1)] csX9_160 ctX9_in ⟨Nat.le_of_ble_eq_true rfl, Nat.le_of_ble_eq_true rfl⟩ rfl rfl (Nat.le_of_ble_eq_true rfl) ⟨Nat.le_of_ble_eq_true rfl, Nat.le_of_ble_eq_true rfl, rfl, rfl⟩ dX9_orders_33 (sn_bIp (fun r3 => ?_)) sn_x0
    refine sn_if_eq hO 48 (by decide) dX9_orders_36 ?_ ?_
    · refine sn_iconst hO kc_m1 dX9_orders_48 ?_
      subst hQq
      exact sn_iret hO rfl dX9_orders_49
    · refine sn_aload_n hO 0 rfl dX9_orders_39 ?_
      refine sn_getF hO fmX9_135 atM_0 dX9_orders_40 ?_
      refine sn_iconst hO kc_0 dX9_orders_43 ?_
      refine sn_iald hO atM_32 rfl dX9_orders_44 ?_
      refine sn_if_ne hO 50 (by decide) dX9_orders_45 ?_ ?_
      · refine sn_iconst hO kc_0 dX9_orders_50 ?_
        refine sn_istore_n hO (lv' := [(2, .int 0), (0, .ref (w.2.2.1 0)), (1, .int p1)]) (by decide) rfl dX9_orders_51 ?_
        refine sn_iconst hO kc_m1 dX9_orders_52 ?_
        refine sn_istore_n hO (lv' := [(3, .int (-1)), (2, .int 0), (0, .ref (w.2.2.1 0)), (1, .int p1)]) (by decide) rfl dX9_orders_53 ?_
        refine sn_iconst hO kc_0 dX9_orders_54 ?_
        refine sn_istore hO (lv' := [(4, .int 0), (3, .int (-1)), (2, .int 0), (0, .ref (w.2.2.1 0)), (1, .int p1)]) (by decide) rfl dX9_orders_55 ?_
        refine sn_sub [3, 4, 2, 1, 0] rfl ?_
        refine sn_lp3_walk (Gd := fun (i4 : Int32) (i5 : Int32) (i6 : Int32) => sn_G LoM w rmX9_orders Qq sn_noE C 0 0 57 [(0, .ref (w.2.2.1 0)), (1, .int p1), (2, .int i4), (3, .int i5), (4, .int i6)] [] S2) ?_ _ _ _
        intro rc7 hrc7 i4 i5 i6
        refine sn_iload hO 4 rfl dX9_orders_57 ?_
        refine sn_iload_n hO 1 rfl dX9_orders_59 ?_
        refine sn_icmp_gt hO 105 (by decide) dX9_orders_60 ?_ ?_
        · refine sn_iload_n hO 3 rfl dX9_orders_105 ?_
          subst hQq
          exact sn_iret hO rfl dX9_orders_106
        · refine sn_iconst hO kc_0 dX9_orders_63 ?_
          refine sn_istore_n hO (lv' := [(3, .int 0), (0, .ref (w.2.2.1 0)), (1, .int p1), (2, .int i4), (4, .int i6)]) (by decide) rfl dX9_orders_64 ?_
          refine sn_jn_walk (fun (k : Int32 → Prop) => ∀ (v8 : Int32), k v8 → sn_G LoM w rmX9_orders Qq sn_noE C 0 0 93 [(0, .ref (w.2.2.1 0)), (1, .int p1), (2, .int i4), (3, .int v8), (4, .int i6)] [] S2) ?_ ?_
          · intro v8
            refine sn_iload_n hO 2 rfl dX9_orders_93 ?_
            refine sn_iconst hO kc_1 dX9_orders_94 ?_
            refine sn_iload_n hO 3 rfl dX9_orders_95 ?_
            refine sn_ishl hO dX9_orders_96 ?_
            refine sn_ior hO dX9_orders_97 ?_
            refine sn_nmI (fun x10 => ?_)
            refine sn_istore_n hO (lv' := [(2, .int x10), (0, .ref (w.2.2.1 0)), (1, .int p1), (3, .int v8), (4, .int i6)]) (by decide) rfl dX9_orders_98 ?_
            refine sn_iinc hO (lv' := [(4, .int (i6 + 1)), (2, .int x10), (0, .ref (w.2.2.1 0)), (1, .int p1), (3, .int v8)]) 4 rfl ki_1 (by decide) rfl dX9_orders_99 ?_
            refine sn_goto hO 57 (by decide) dX9_orders_102 ?_
            refine sn_sub [2, 3, 1, 4, 0] rfl ?_
            exact hrc7 _ _ _
          · intro k9 hk9
            refine sn_sub [1, 2, 3, 0, 4] rfl ?_
            refine sn_lp1_walk (Gd := fun (i11 : Int32) => sn_G LoM w rmX9_orders Qq sn_noE C 0 0 65 [(0, .ref (w.2.2.1 0)), (1, .int p1), (2, .int i4), (3, .int i11), (4, .int i6)] [] S2) ?_ _
            intro rc12 hrc12 i11
            refine sn_aload_n hO 0 rfl dX9_orders_65 ?_
            refine sn_iload_n hO 3 rfl dX9_orders_66 ?_
            refine sn_iload_n hO 2 rfl dX9_orders_67 ?_
            refine sn_callV hO (c2 := 0) (s2 := 0) [.int i11, .int i4] cvX9_479 (fun _ => sn_Rv_K atM_0) ctX9_canPass ⟨Nat.le_of_ble_eq_true rfl, Nat.le_of_ble_eq_true rfl⟩ rfl rfl (Nat.le_of_ble_eq_true rfl) ⟨Nat.le_of_ble_eq_true rfl, Nat.le_of_ble_eq_true rfl, rfl, rfl⟩ dX9_orders_68 (sn_bIp (fun r13 => ?_)) sn_x0
            refine sn_jn_walk (fun (k : Prop) => k → sn_G LoM w rmX9_orders Qq sn_noE C 0 0 87 [(0, .ref (w.2.2.1 0)), (1, .int p1), (2, .int i4), (3, .int i11), (4, .int i6)] [] S2) ?_ ?_
            · refine sn_iinc hO (lv' := [(3, .int (i11 + 1)), (0, .ref (w.2.2.1 0)), (1, .int p1), (2, .int i4), (4, .int i6)]) 3 rfl ki_1 (by decide) rfl dX9_orders_87 ?_
              refine sn_goto hO 65 (by decide) dX9_orders_90 ?_
              refine sn_sub [1, 2, 3, 0, 4] rfl ?_
              exact hrc12 _
            · intro k14 hk14
              refine sn_if_eq hO 87 (by decide) dX9_orders_71 ?_ ?_
              · exact hk14
              · refine sn_aload_n hO 0 rfl dX9_orders_74 ?_
                refine sn_getF hO fmX9_135 atM_0 dX9_orders_75 ?_
                refine sn_iload_n hO 2 rfl dX9_orders_78 ?_
                refine sn_iconst hO kc_1 dX9_orders_79 ?_
                refine sn_iload_n hO 3 rfl dX9_orders_80 ?_
                refine sn_ishl hO dX9_orders_81 ?_
                refine sn_ior hO dX9_orders_82 ?_
                refine sn_iald hO atM_32 rfl dX9_orders_83 ?_
                refine sn_if_ne hO 93 (by decide) dX9_orders_84 ?_ ?_
                · exact hk9 _
                · exact hk14
      · refine sn_iconst hO kc_m1 dX9_orders_48 ?_
        subst hQq
        exact sn_iret hO rfl dX9_orders_49
  · refine sn_aload_n hO 0 rfl dX9_orders_14 ?_
    refine sn_getF hO fmX9_135 atM_0 dX9_orders_15 ?_
    refine sn_iconst hO kc_0 dX9_orders_18 ?_
    refine sn_iald hO atM_32 rfl dX9_orders_19 ?_
    subst hQq
    exact sn_iret hO rfl dX9_orders_20
theorem ctX9_orders {w : sn_W} {p1 : Int32} {S : sn_S} {Q : Int32 → sn_S → Prop} (h : wpX9_orders p1 S Q) : sn_Ct LoM w yX9_orders (ws_ yX9_orders cX9_orders 5 (some .int)) rmX9_orders [.ref (w.2.2.1 0), .int p1] S (sn_qI Q) sn_noE := sn_Ct_of (LoM_X w) (by decide) (Nat.le_of_ble_eq_true rfl) RX9 rfl (fun C hO => wkX9_orders hO p1 S Q h)
def rmX9_sure : Room := { frames := 3, cells := 0, slots := 0, locals := 68 }
/-- SnailPostModel.sure(I)I -/
def wpX9_sure (p1 : Int32) (S : sn_S) (Q : Int32 → sn_S → Prop) : Prop :=
  sn_lt (sn_pI S 0 0 0) (fun S1 => wpX9_findOrders S1 (fun (S2 : sn_S) => (vp_in 0 64 ∧ sn_lt (S2.1 32 (0 : Int32).toNatClampNeg) (fun x3 => wpX9_in (Int32.toInt64 p1) 0 1 (fun (r4 : Int32) => ((r4 = 0 → Q (-1) S2) ∧ (¬ r4 = 0 → ((¬ x3 = 0 → wpX9_allSnails S2 (fun (r5 : Int32) => sn_lp1 (fun (rc7 : Int32 → Prop) (i6 : Int32) => (vp_in 0 5680 ∧ (((S2.1 2 (0 : Int32).toNatClampNeg) ≤ i6 → Q (-1) S2) ∧ (¬ (S2.1 2 (0 : Int32).toNatClampNeg) ≤ i6 → sn_jn (fun (v8 : Int32) => ((¬ v8 = x3 → rc7 (i6 + 1)) ∧ (v8 = x3 → Q i6 S2))) (fun (k9 : Int32 → Prop) => ((¬ p1 = 0 → wpX9_canPass i6 (r5 &&& ((1 <<< (i6 &&& 31)) ^^^ (-1))) S2 (fun (r10 : Int32) => ((r10 = 0 → k9 0) ∧ (¬ r10 = 0 → (vp_in (r5 &&& ((1 <<< (i6 &&& 31)) ^^^ (-1))) 64 ∧ k9 (S2.1 31 ((r5 &&& ((1 <<< (i6 &&& 31)) ^^^ (-1)))).toNatClampNeg)))))) ∧ (p1 = 0 → wpX9_canPass i6 0 S2 (fun (r11 : Int32) => ((r11 = 0 → k9 0) ∧ (¬ r11 = 0 → (vp_in (1 <<< (i6 &&& 31)) 64 ∧ k9 (S2.1 32 ((1 <<< (i6 &&& 31))).toNatClampNeg)))))))))))) 0)) ∧ (x3 = 0 → Q (-1) S2)))))))))
theorem wkX9_sure {w : sn_W} {C : sn_C} (hO : sn_Ok LoM w C RX9 cX9_sure 6 (some .int) [] "sure") (p1 : Int32) (S : sn_S) (Q : Int32 → sn_S → Prop) : wpX9_sure p1 S Q → sn_G LoM w rmX9_sure (sn_qI Q) sn_noE C 0 0 0 [(0, .ref (w.2.2.1 0)), (1, .int p1)] [] S := by
  unfold wpX9_sure
  generalize hQq : (sn_qI Q) = Qq
  refine sn_aload_n hO 0 rfl dX9_sure_0 ?_
  refine sn_iconst hO kc_0 dX9_sure_1 ?_
  refine sn_putI hO fmX9_150 atM_0 rfl rfl dX9_sure_2 ?_
  refine sn_nmS (fun S1 => ?_)
  refine sn_aload_n hO 0 rfl dX9_sure_5 ?_
  refine sn_callV hO (c2 := 0) (s2 := 0) [] cvX9_482 (fun _ => sn_Rv_K atM_0) ctX9_findOrders ⟨Nat.le_of_ble_eq_true rfl, Nat.le_of_ble_eq_true rfl⟩ rfl rfl (Nat.le_of_ble_eq_true rfl) ⟨Nat.le_of_ble_eq_true rfl, Nat.le_of_ble_eq_true rfl, rfl, rfl⟩ dX9_sure_6 (sn_bV (fun S2 => ?_)) sn_x0
  refine sn_aload_n hO 0 rfl dX9_sure_9 ?_
  refine sn_getF hO fmX9_135 atM_0 dX9_sure_10 ?_
  refine sn_iconst hO kc_0 dX9_sure_13 ?_
  refine sn_iald hO atM_32 rfl dX9_sure_14 ?_
  refine sn_nmI (fun x3 => ?_)
  refine sn_istore_n hO (lv' := [(2, .int x3), (0, .ref (w.2.2.1 0)), (1, .int p1)]) (by decide) rfl dX9_sure_15 ?_
  refine sn_iload_n hO 2 rfl dX9_sure_16 ?_
  refine sn_i2l hO dX9_sure_17 ?_
  refine sn_lconst hO (v := 0) rfl dX9_sure_18 ?_
  refine sn_lconst hO (v := 1) rfl dX9_sure_19 ?_
  refine sn_callS hO (c2 := 0) (s2 := 0) [.long (Int32.toInt64 p1), .long 0, .long 1] csX9_160 ctX9_in ⟨Nat.le_of_ble_eq_true rfl, Nat.le_of_ble_eq_true rfl⟩ rfl rfl (Nat.le_of_ble_eq_true rfl) ⟨Nat.le_of_ble_eq_true rfl, Nat.le_of_ble_eq_true rfl, rfl, rfl⟩ dX9_sure_20 (sn_bIp (fun r4 => ?_)) sn_x0
  refine sn_if_eq hO 30 (by decide) dX9_sure_23 ?_ ?_
  · refine sn_iconst hO kc_m1 dX9_sure_30 ?_
    subst hQq
    exact sn_iret hO rfl dX9_sure_31
  · refine sn_iload_n hO 0 rfl dX9_sure_26 ?_
    refine sn_if_ne hO 32 (by decide) dX9_sure_27 ?_ ?_
    · refine sn_aload_n hO 1 rfl dX9_sure_32 ?_
      refine sn_callV hO (c2 := 0) (s2 := 0) [] cvX9_460 (fun _ => sn_Rv_K atM_0) ctX9_allSnails ⟨Nat.le_of_ble_eq_true rfl, Nat.le_of_ble_eq_true rfl⟩ rfl rfl (Nat.le_of_ble_eq_true rfl) ⟨Nat.le_of_ble_eq_true rfl, Nat.le_of_ble_eq_true rfl, rfl, rfl⟩ dX9_sure_33 (sn_bIp (fun r5 => ?_)) sn_x0
      refine sn_istore_n hO (lv' := [(3, .int r5), (2, .int x3), (0, .ref (w.2.2.1 0)), (1, .int p1)]) (by decide) rfl dX9_sure_36 ?_
      refine sn_iconst hO kc_0 dX9_sure_37 ?_
      refine sn_istore hO (lv' := [(4, .int 0), (3, .int r5), (2, .int x3), (0, .ref (w.2.2.1 0)), (1, .int p1)]) (by decide) rfl dX9_sure_38 ?_
      refine sn_sub [3, 4, 2, 1, 0] rfl ?_
      refine sn_lp1_walk (Gd := fun (i6 : Int32) => sn_G LoM w rmX9_sure Qq sn_noE C 0 0 40 [(0, .ref (w.2.2.1 0)), (1, .int p1), (2, .int x3), (3, .int r5), (4, .int i6)] [] S2) ?_ _
      intro rc7 hrc7 i6
      refine sn_iload hO 4 rfl dX9_sure_40 ?_
      refine sn_aload_n hO 0 rfl dX9_sure_42 ?_
      refine sn_getF hO fmX9_13 atM_0 dX9_sure_43 ?_
      refine sn_iconst hO kc_0 dX9_sure_46 ?_
      refine sn_iald hO atM_2 rfl dX9_sure_47 ?_
      refine sn_icmp_ge hO 132 (by decide) dX9_sure_48 ?_ ?_
      · refine sn_iconst hO kc_m1 dX9_sure_132 ?_
        subst hQq
        exact sn_iret hO rfl dX9_sure_133
      · refine sn_iload_n hO 1 rfl dX9_sure_51 ?_
        refine sn_jn_walk (fun (k : Int32 → Prop) => ∀ (v8 : Int32), k v8 → sn_G LoM w rmX9_sure Qq sn_noE C 0 0 115 [(0, .ref (w.2.2.1 0)), (1, .int p1), (2, .int x3), (3, .int r5), (4, .int i6)] [.int v8] S2) ?_ ?_
        · intro v8
          refine sn_istore hO (lv' := [(5, .int v8), (0, .ref (w.2.2.1 0)), (1, .int p1), (2, .int x3), (3, .int r5), (4, .int i6)]) (by decide) rfl dX9_sure_115 ?_
          refine sn_iload hO 0 rfl dX9_sure_117 ?_
          refine sn_iload_n hO 3 rfl dX9_sure_119 ?_
          refine sn_icmp_ne hO 126 (by decide) dX9_sure_120 ?_ ?_
          · refine sn_iinc hO (lv' := [(4, .int (i6 + 1)), (5, .int v8), (0, .ref (w.2.2.1 0)), (1, .int p1), (2, .int x3), (3, .int r5)]) 5 rfl ki_1 (by decide) rfl dX9_sure_126 ?_
            refine sn_goto hO 40 (by decide) dX9_sure_129 ?_
            refine sn_sub [2, 3, 4, 5, 0] rfl ?_
            exact hrc7 _
          · refine sn_iload hO 5 rfl dX9_sure_123 ?_
            subst hQq
            exact sn_iret hO rfl dX9_sure_125
        · intro k9 hk9
          refine sn_if_ne hO 81 (by decide) dX9_sure_52 ?_ ?_
          · refine sn_aload_n hO 0 rfl dX9_sure_81 ?_
            refine sn_iload hO 4 rfl dX9_sure_82 ?_
            refine sn_iload_n hO 3 rfl dX9_sure_84 ?_
            refine sn_iconst hO kc_1 dX9_sure_85 ?_
            refine sn_iload hO 4 rfl dX9_sure_86 ?_
            refine sn_ishl hO dX9_sure_88 ?_
            refine sn_iconst hO kc_m1 dX9_sure_89 ?_
            refine sn_ixor hO dX9_sure_90 ?_
            refine sn_iand hO dX9_sure_91 ?_
            refine sn_callV hO (c2 := 0) (s2 := 0) [.int i6, .int (r5 &&& ((1 <<< (i6 &&& 31)) ^^^ (-1)))] cvX9_479 (fun _ => sn_Rv_K atM_0) ctX9_canPass ⟨Nat.le_of_ble_eq_true rfl, Nat.le_of_ble_eq_true rfl⟩ rfl rfl (Nat.le_of_ble_eq_true rfl) ⟨Nat.le_of_ble_eq_true rfl, Nat.le_of_ble_eq_true rfl, rfl, rfl⟩ dX9_sure_92 (sn_bIp (fun r10 => ?_)) sn_x0
            refine sn_if_eq hO 114 (by decide) dX9_sure_95 ?_ ?_
            · refine sn_iconst hO kc_0 dX9_sure_114 ?_
              exact hk9 _
            · refine sn_aload_n hO 0 rfl dX9_sure_98 ?_
              refine sn_getF hO fmX9_132 atM_0 dX9_sure_99 ?_
              refine sn_iload_n hO 3 rfl dX9_sure_102 ?_
              refine sn_iconst hO kc_1 dX9_sure_103 ?_
              refine sn_iload hO 4 rfl dX9_sure_104 ?_
              refine sn_ishl hO dX9_sure_106 ?_
              refine sn_iconst hO kc_m1 dX9_sure_107 ?_
              refine sn_ixor hO dX9_sure_108 ?_
              refine sn_iand hO dX9_sure_109 ?_
              refine sn_iald hO atM_31 rfl dX9_sure_110 ?_
              refine sn_goto hO 115 (by decide) dX9_sure_111 ?_
              exact hk9 _
          · refine sn_aload_n hO 0 rfl dX9_sure_55 ?_
            refine sn_iload hO 4 rfl dX9_sure_56 ?_
            refine sn_iconst hO kc_0 dX9_sure_58 ?_
            refine sn_callV hO (c2 := 0) (s2 := 0) [.int i6, .int 0] cvX9_479 (fun _ => sn_Rv_K atM_0) ctX9_canPass ⟨Nat.le_of_ble_eq_true rfl, Nat.le_of_ble_eq_true rfl⟩ rfl rfl (Nat.le_of_ble_eq_true rfl) ⟨Nat.le_of_ble_eq_true rfl, Nat.le_of_ble_eq_true rfl, rfl, rfl⟩ dX9_sure_59 (sn_bIp (fun r11 => ?_)) sn_x0
            refine sn_if_eq hO 77 (by decide) dX9_sure_62 ?_ ?_
            · refine sn_iconst hO kc_0 dX9_sure_77 ?_
              refine sn_goto hO 115 (by decide) dX9_sure_78 ?_
              exact hk9 _
            · refine sn_aload_n hO 0 rfl dX9_sure_65 ?_
              refine sn_getF hO fmX9_135 atM_0 dX9_sure_66 ?_
              refine sn_iconst hO kc_1 dX9_sure_69 ?_
              refine sn_iload hO 4 rfl dX9_sure_70 ?_
              refine sn_ishl hO dX9_sure_72 ?_
              refine sn_iald hO atM_32 rfl dX9_sure_73 ?_
              refine sn_goto hO 115 (by decide) dX9_sure_74 ?_
              exact hk9 _
    · refine sn_iconst hO kc_m1 dX9_sure_30 ?_
      subst hQq
      exact sn_iret hO rfl dX9_sure_31
theorem ctX9_sure {w : sn_W} {p1 : Int32} {S : sn_S} {Q : Int32 → sn_S → Prop} (h : wpX9_sure p1 S Q) : sn_Ct LoM w yX9_sure (ws_ yX9_sure cX9_sure 6 (some .int)) rmX9_sure [.ref (w.2.2.1 0), .int p1] S (sn_qI Q) sn_noE := sn_Ct_of (LoM_X w) (by decide) (Nat.le_of_ble_eq_true rfl) RX9 rfl (fun C hO => wkX9_sure hO p1 S Q h)
def rmX9_ahead : Room := { frames := 2, cells := 0, slots := 0, locals := 46 }
/-- SnailPostModel.ahead(II)I -/
def wpX9_ahead (p1 : Int32) (p2 : Int32) (S : sn_S) (Q : Int32 → sn_S → Prop) : Prop :=
  sn_lt (sn_pI S 0 0 0) (fun S1 => wpX9_isSnail p1 S1 (fun (r2 : Int32) => ((r2 = 0 → Q (-1) S1) ∧ (¬ r2 = 0 → wpX9_isSnail p2 S1 (fun (r3 : Int32) => ((r3 = 0 → Q (-1) S1) ∧ (¬ r3 = 0 → ((¬ p1 = p2 → wpX9_allSnails S1 (fun (r4 : Int32) => sn_lp2 (fun (rc7 : Int32 → sn_S → Prop) (i5 : Int32) (S6 : sn_S) => ((r4 < i5 → (vp_in r4 64 ∧ Q (S6.1 33 (r4).toNatClampNeg) S6)) ∧ (¬ r4 < i5 → sn_jn (fun (v8 : Int32) => (vp_in i5 64 ∧ sn_lt (sn_pI S6 33 (i5).toNatClampNeg v8) (fun S10 => sn_jn (fun (S11 : sn_S) => rc7 (i5 + 1) S11) (fun (k12 : sn_S → Prop) => sn_lp2 (fun (rc15 : Int32 → sn_S → Prop) (i13 : Int32) (S14 : sn_S) => (vp_in 0 5680 ∧ (((S14.1 2 (0 : Int32).toNatClampNeg) ≤ i13 → k12 S14) ∧ (¬ (S14.1 2 (0 : Int32).toNatClampNeg) ≤ i13 → wpX9_is i5 i13 (fun (r16 : Int32) => sn_jn (fun (v17 : Int32) => sn_jn (fun (v19 : Int32) => (vp_in i5 64 ∧ sn_jn (fun (v21 : Int32) => (vp_in i5 64 ∧ sn_lt (sn_pI S14 33 (i5).toNatClampNeg ((S14.1 33 (i5).toNatClampNeg) + v21)) (fun S23 => rc15 (i13 + 1) S23))) (fun (k22 : Int32 → Prop) => ((v19 = 0 → k22 0) ∧ (¬ v19 = 0 → (vp_in (i5 &&& ((1 <<< (i13 &&& 31)) ^^^ (-1))) 64 ∧ k22 (S14.1 33 ((i5 &&& ((1 <<< (i13 &&& 31)) ^^^ (-1)))).toNatClampNeg))))))) (fun (k20 : Int32 → Prop) => sn_jn (κ := Prop) (k20 0) (fun (k24 : Prop) => ((v17 = 0 → k24) ∧ (¬ v17 = 0 → sn_jn (κ := Prop) (k20 1) (fun (k25 : Prop) => ((¬ i13 = p2 → k25) ∧ (i13 = p2 → wpX9_is i5 p1 (fun (r26 : Int32) => ((r26 = 0 → k24) ∧ (¬ r26 = 0 → k25))))))))))) (fun (k18 : Int32 → Prop) => sn_jn (κ := Prop) (k18 0) (fun (k27 : Prop) => ((r16 = 0 → k27) ∧ (¬ r16 = 0 → wpX9_canPass i13 (i5 &&& ((1 <<< (i13 &&& 31)) ^^^ (-1))) S14 (fun (r28 : Int32) => ((r28 = 0 → k27) ∧ (¬ r28 = 0 → k18 1)))))))))))) 0 S10)))) (fun (k9 : Int32 → Prop) => ((¬ i5 = 0 → k9 0) ∧ (i5 = 0 → k9 1)))))) 0 S1)) ∧ (p1 = p2 → Q (-1) S1)))))))))
theorem wkX9_ahead {w : sn_W} {C : sn_C} (hO : sn_Ok LoM w C RX9 cX9_ahead 7 (some .int) [] "ahead") (p1 : Int32) (p2 : Int32) (S : sn_S) (Q : Int32 → sn_S → Prop) : wpX9_ahead p1 p2 S Q → sn_G LoM w rmX9_ahead (sn_qI Q) sn_noE C 0 0 0 [(0, .ref (w.2.2.1 0)), (1, .int p1), (2, .int p2)] [] S := by
  unfold wpX9_ahead
  generalize hQq : (sn_qI Q) = Qq
  refine sn_aload_n hO 0 rfl dX9_ahead_0 ?_
  refine sn_iconst hO kc_0 dX9_ahead_1 ?_
  refine sn_putI hO fmX9_150 atM_0 rfl rfl dX9_ahead_2 ?_
  refine sn_nmS (fun S1 => ?_)
  refine sn_aload_n hO 0 rfl dX9_ahead_5 ?_
  refine sn_iload_n hO 1 rfl dX9_ahead_6 ?_
  refine sn_callV hO (c2 := 0) (s2 := 0) [.int p1] cvX9_197 (fun _ => sn_Rv_K atM_0) ctX9_isSnail ⟨Nat.le_of_ble_eq_true rfl, Nat.le_of_ble_eq_true rfl⟩ rfl rfl (Nat.le_of_ble_eq_true rfl) ⟨Nat.le_of_ble_eq_true rfl, Nat.le_of_ble_eq_true rfl, rfl, rfl⟩ dX9_ahead_7 (sn_bIp (fun r2 => ?_)) sn_x0
  refine sn_if_eq hO 26 (by decide) dX9_ahead_10 ?_ ?_
  · refine sn_iconst hO kc_m1 dX9_ahead_26 ?_
    subst hQq
    exact sn_iret hO rfl dX9_ahead_27
  · refine sn_aload_n hO 0 rfl dX9_ahead_13 ?_
    refine sn_iload_n hO 2 rfl dX9_ahead_14 ?_
    refine sn_callV hO (c2 := 0) (s2 := 0) [.int p2] cvX9_197 (fun _ => sn_Rv_K atM_0) ctX9_isSnail ⟨Nat.le_of_ble_eq_true rfl, Nat.le_of_ble_eq_true rfl⟩ rfl rfl (Nat.le_of_ble_eq_true rfl) ⟨Nat.le_of_ble_eq_true rfl, Nat.le_of_ble_eq_true rfl, rfl, rfl⟩ dX9_ahead_15 (sn_bIp (fun r3 => ?_)) sn_x0
    refine sn_if_eq hO 26 (by decide) dX9_ahead_18 ?_ ?_
    · refine sn_iconst hO kc_m1 dX9_ahead_26 ?_
      subst hQq
      exact sn_iret hO rfl dX9_ahead_27
    · refine sn_iload_n hO 1 rfl dX9_ahead_21 ?_
      refine sn_iload_n hO 2 rfl dX9_ahead_22 ?_
      refine sn_icmp_ne hO 28 (by decide) dX9_ahead_23 ?_ ?_
      · refine sn_aload_n hO 0 rfl dX9_ahead_28 ?_
        refine sn_callV hO (c2 := 0) (s2 := 0) [] cvX9_460 (fun _ => sn_Rv_K atM_0) ctX9_allSnails ⟨Nat.le_of_ble_eq_true rfl, Nat.le_of_ble_eq_true rfl⟩ rfl rfl (Nat.le_of_ble_eq_true rfl) ⟨Nat.le_of_ble_eq_true rfl, Nat.le_of_ble_eq_true rfl, rfl, rfl⟩ dX9_ahead_29 (sn_bIp (fun r4 => ?_)) sn_x0
        refine sn_istore_n hO (lv' := [(3, .int r4), (0, .ref (w.2.2.1 0)), (1, .int p1), (2, .int p2)]) (by decide) rfl dX9_ahead_32 ?_
        refine sn_iconst hO kc_0 dX9_ahead_33 ?_
        refine sn_istore hO (lv' := [(4, .int 0), (3, .int r4), (0, .ref (w.2.2.1 0)), (1, .int p1), (2, .int p2)]) (by decide) rfl dX9_ahead_34 ?_
        refine sn_sub [2, 3, 4, 1, 0] rfl ?_
        refine sn_lp2_walk (Gd := fun (i5 : Int32) (S6 : sn_S) => sn_G LoM w rmX9_ahead Qq sn_noE C 0 0 36 [(0, .ref (w.2.2.1 0)), (1, .int p1), (2, .int p2), (3, .int r4), (4, .int i5)] [] S6) ?_ _ _
        intro rc7 hrc7 i5 S6
        refine sn_iload hO 4 rfl dX9_ahead_36 ?_
        refine sn_iload_n hO 3 rfl dX9_ahead_38 ?_
        refine sn_icmp_gt hO 180 (by decide) dX9_ahead_39 ?_ ?_
        · refine sn_aload_n hO 0 rfl dX9_ahead_180 ?_
          refine sn_getF hO fmX9_138 atM_0 dX9_ahead_181 ?_
          refine sn_iload_n hO 3 rfl dX9_ahead_184 ?_
          refine sn_iald hO atM_33 rfl dX9_ahead_185 ?_
          subst hQq
          exact sn_iret hO rfl dX9_ahead_186
        · refine sn_aload_n hO 0 rfl dX9_ahead_42 ?_
          refine sn_getF hO fmX9_138 atM_0 dX9_ahead_43 ?_
          refine sn_iload hO 4 rfl dX9_ahead_46 ?_
          refine sn_iload hO 4 rfl dX9_ahead_48 ?_
          refine sn_jn_walk (fun (k : Int32 → Prop) => ∀ (v8 : Int32), k v8 → sn_G LoM w rmX9_ahead Qq sn_noE C 0 0 58 [(0, .ref (w.2.2.1 0)), (1, .int p1), (2, .int p2), (3, .int r4), (4, .int i5)] [.int v8, .int i5, .ref (w.2.2.1 33)] S6) ?_ ?_
          · intro v8
            refine sn_iast hO atM_33 rfl dX9_ahead_58 ?_
            refine sn_nmS (fun S10 => ?_)
            refine sn_iconst hO kc_0 dX9_ahead_59 ?_
            refine sn_istore hO (lv' := [(5, .int 0), (0, .ref (w.2.2.1 0)), (1, .int p1), (2, .int p2), (3, .int r4), (4, .int i5)]) (by decide) rfl dX9_ahead_60 ?_
            refine sn_jn_walk (fun (k : sn_S → Prop) => ∀ (S11 : sn_S), k S11 → sn_G LoM w rmX9_ahead Qq sn_noE C 0 0 174 [(0, .ref (w.2.2.1 0)), (1, .int p1), (2, .int p2), (3, .int r4), (4, .int i5)] [] S11) ?_ ?_
            · intro S11
              refine sn_iinc hO (lv' := [(4, .int (i5 + 1)), (0, .ref (w.2.2.1 0)), (1, .int p1), (2, .int p2), (3, .int r4)]) 4 rfl ki_1 (by decide) rfl dX9_ahead_174 ?_
              refine sn_goto hO 36 (by decide) dX9_ahead_177 ?_
              refine sn_sub [1, 2, 3, 4, 0] rfl ?_
              exact hrc7 _ _
            · intro k12 hk12
              refine sn_sub [1, 2, 3, 4, 5, 0] rfl ?_
              refine sn_lp2_walk (Gd := fun (i13 : Int32) (S14 : sn_S) => sn_G LoM w rmX9_ahead Qq sn_noE C 0 0 62 [(0, .ref (w.2.2.1 0)), (1, .int p1), (2, .int p2), (3, .int r4), (4, .int i5), (5, .int i13)] [] S14) ?_ _ _
              intro rc15 hrc15 i13 S14
              refine sn_iload hO 5 rfl dX9_ahead_62 ?_
              refine sn_aload_n hO 0 rfl dX9_ahead_64 ?_
              refine sn_getF hO fmX9_13 atM_0 dX9_ahead_65 ?_
              refine sn_iconst hO kc_0 dX9_ahead_68 ?_
              refine sn_iald hO atM_2 rfl dX9_ahead_69 ?_
              refine sn_icmp_ge hO 174 (by decide) dX9_ahead_70 ?_ ?_
              · refine sn_sub [0, 1, 2, 3, 4] rfl ?_
                exact hk12 _
              · refine sn_iload hO 4 rfl dX9_ahead_73 ?_
                refine sn_iload hO 5 rfl dX9_ahead_75 ?_
                refine sn_callS hO (c2 := 0) (s2 := 0) [.int i5, .int i13] csX9_435 ctX9_is ⟨Nat.le_of_ble_eq_true rfl, Nat.le_of_ble_eq_true rfl⟩ rfl rfl (Nat.le_of_ble_eq_true rfl) ⟨Nat.le_of_ble_eq_true rfl, Nat.le_of_ble_eq_true rfl, rfl, rfl⟩ dX9_ahead_77 (sn_bIp (fun r16 => ?_)) sn_x0
                refine sn_jn_walk (fun (k : Int32 → Prop) => ∀ (v17 : Int32), k v17 → sn_G LoM w rmX9_ahead Qq sn_noE C 0 0 106 [(0, .ref (w.2.2.1 0)), (1, .int p1), (2, .int p2), (3, .int r4), (4, .int i5), (5, .int i13)] [.int v17] S14) ?_ ?_
                · intro v17
                  refine sn_istore hO (lv' := [(6, .int v17), (0, .ref (w.2.2.1 0)), (1, .int p1), (2, .int p2), (3, .int r4), (4, .int i5), (5, .int i13)]) (by decide) rfl dX9_ahead_106 ?_
                  refine sn_iload hO 0 rfl dX9_ahead_108 ?_
                  refine sn_jn_walk (fun (k : Int32 → Prop) => ∀ (v19 : Int32), k v19 → sn_G LoM w rmX9_ahead Qq sn_noE C 0 0 133 [(0, .ref (w.2.2.1 0)), (1, .int p1), (2, .int p2), (3, .int r4), (4, .int i5), (5, .int i13)] [.int v19] S14) ?_ ?_
                  · intro v19
                    refine sn_istore hO (lv' := [(6, .int v19), (0, .ref (w.2.2.1 0)), (1, .int p1), (2, .int p2), (3, .int r4), (4, .int i5), (5, .int i13)]) (by decide) rfl dX9_ahead_133 ?_
                    refine sn_aload_n hO 1 rfl dX9_ahead_135 ?_
                    refine sn_getF hO fmX9_138 atM_0 dX9_ahead_136 ?_
                    refine sn_iload hO 5 rfl dX9_ahead_139 ?_
                    refine sn_dup2 hO rfl rfl dX9_ahead_141 ?_
                    refine sn_iald hO atM_33 rfl dX9_ahead_142 ?_
                    refine sn_iload hO 0 rfl dX9_ahead_143 ?_
                    refine sn_jn_walk (fun (k : Int32 → Prop) => ∀ (v21 : Int32), k v21 → sn_G LoM w rmX9_ahead Qq sn_noE C 0 0 166 [(0, .ref (w.2.2.1 0)), (1, .int p1), (2, .int p2), (3, .int r4), (4, .int i5), (5, .int i13)] [.int v21, .int (S14.1 33 (i5).toNatClampNeg), .int i5, .ref (w.2.2.1 33)] S14) ?_ ?_
                    · intro v21
                      refine sn_iadd hO dX9_ahead_166 ?_
                      refine sn_iast hO atM_33 rfl dX9_ahead_167 ?_
                      refine sn_nmS (fun S23 => ?_)
                      refine sn_iinc hO (lv' := [(5, .int (i13 + 1)), (0, .ref (w.2.2.1 0)), (1, .int p1), (2, .int p2), (3, .int r4), (4, .int i5)]) 5 rfl ki_1 (by decide) rfl dX9_ahead_168 ?_
                      refine sn_goto hO 62 (by decide) dX9_ahead_171 ?_
                      refine sn_sub [1, 2, 3, 4, 5, 0] rfl ?_
                      exact hrc15 _ _
                    · intro k22 hk22
                      refine sn_if_eq hO 165 (by decide) dX9_ahead_145 ?_ ?_
                      · refine sn_iconst hO kc_0 dX9_ahead_165 ?_
                        refine sn_sub [1, 2, 3, 4, 5, 6] rfl ?_
                        exact hk22 _
                      · refine sn_aload_n hO 1 rfl dX9_ahead_148 ?_
                        refine sn_getF hO fmX9_138 atM_0 dX9_ahead_149 ?_
                        refine sn_iload hO 5 rfl dX9_ahead_152 ?_
                        refine sn_iconst hO kc_1 dX9_ahead_154 ?_
                        refine sn_iload hO 6 rfl dX9_ahead_155 ?_
                        refine sn_ishl hO dX9_ahead_157 ?_
                        refine sn_iconst hO kc_m1 dX9_ahead_158 ?_
                        refine sn_ixor hO dX9_ahead_159 ?_
                        refine sn_iand hO dX9_ahead_160 ?_
                        refine sn_iald hO atM_33 rfl dX9_ahead_161 ?_
                        refine sn_goto hO 166 (by decide) dX9_ahead_162 ?_
                        refine sn_sub [1, 2, 3, 4, 5, 6] rfl ?_
                        exact hk22 _
                  · intro k20 hk20
                    refine sn_jn_walk (fun (k : Prop) => k → sn_G LoM w rmX9_ahead Qq sn_noE C 0 0 132 [(0, .ref (w.2.2.1 0)), (1, .int p1), (2, .int p2), (3, .int r4), (4, .int i5), (5, .int i13)] [] S14) ?_ ?_
                    · refine sn_iconst hO kc_0 dX9_ahead_132 ?_
                      exact hk20 _
                    · intro k24 hk24
                      refine sn_if_eq hO 132 (by decide) dX9_ahead_110 ?_ ?_
                      · refine sn_sub [1, 2, 3, 4, 5, 6] rfl ?_
                        exact hk24
                      · refine sn_iload hO 6 rfl dX9_ahead_113 ?_
                        refine sn_iload_n hO 3 rfl dX9_ahead_115 ?_
                        refine sn_jn_walk (fun (k : Prop) => k → sn_G LoM w rmX9_ahead Qq sn_noE C 0 0 128 [(0, .ref (w.2.2.1 0)), (1, .int p1), (2, .int p2), (3, .int r4), (4, .int i5), (5, .int i13)] [] S14) ?_ ?_
                        · refine sn_iconst hO kc_1 dX9_ahead_128 ?_
                          refine sn_goto hO 133 (by decide) dX9_ahead_129 ?_
                          exact hk20 _
                        · intro k25 hk25
                          refine sn_icmp_ne hO 128 (by decide) dX9_ahead_116 ?_ ?_
                          · refine sn_sub [1, 2, 3, 4, 5, 6] rfl ?_
                            exact hk25
                          · refine sn_iload hO 5 rfl dX9_ahead_119 ?_
                            refine sn_iload_n hO 2 rfl dX9_ahead_121 ?_
                            refine sn_callS hO (c2 := 0) (s2 := 0) [.int i5, .int p1] csX9_435 ctX9_is ⟨Nat.le_of_ble_eq_true rfl, Nat.le_of_ble_eq_true rfl⟩ rfl rfl (Nat.le_of_ble_eq_true rfl) ⟨Nat.le_of_ble_eq_true rfl, Nat.le_of_ble_eq_true rfl, rfl, rfl⟩ dX9_ahead_122 (sn_bIp (fun r26 => ?_)) sn_x0
                            refine sn_if_eq hO 132 (by decide) dX9_ahead_125 ?_ ?_
                            · refine sn_sub [1, 2, 3, 4, 5, 6] rfl ?_
                              exact hk24
                            · refine sn_sub [1, 2, 3, 4, 5, 6] rfl ?_
                              exact hk25
                · intro k18 hk18
                  refine sn_jn_walk (fun (k : Prop) => k → sn_G LoM w rmX9_ahead Qq sn_noE C 0 0 105 [(0, .ref (w.2.2.1 0)), (1, .int p1), (2, .int p2), (3, .int r4), (4, .int i5), (5, .int i13)] [] S14) ?_ ?_
                  · refine sn_iconst hO kc_0 dX9_ahead_105 ?_
                    exact hk18 _
                  · intro k27 hk27
                    refine sn_if_eq hO 105 (by decide) dX9_ahead_80 ?_ ?_
                    · exact hk27
                    · refine sn_aload_n hO 0 rfl dX9_ahead_83 ?_
                      refine sn_iload hO 5 rfl dX9_ahead_84 ?_
                      refine sn_iload hO 4 rfl dX9_ahead_86 ?_
                      refine sn_iconst hO kc_1 dX9_ahead_88 ?_
                      refine sn_iload hO 5 rfl dX9_ahead_89 ?_
                      refine sn_ishl hO dX9_ahead_91 ?_
                      refine sn_iconst hO kc_m1 dX9_ahead_92 ?_
                      refine sn_ixor hO dX9_ahead_93 ?_
                      refine sn_iand hO dX9_ahead_94 ?_
                      refine sn_callV hO (c2 := 0) (s2 := 0) [.int i13, .int (i5 &&& ((1 <<< (i13 &&& 31)) ^^^ (-1)))] cvX9_479 (fun _ => sn_Rv_K atM_0) ctX9_canPass ⟨Nat.le_of_ble_eq_true rfl, Nat.le_of_ble_eq_true rfl⟩ rfl rfl (Nat.le_of_ble_eq_true rfl) ⟨Nat.le_of_ble_eq_true rfl, Nat.le_of_ble_eq_true rfl, rfl, rfl⟩ dX9_ahead_95 (sn_bIp (fun r28 => ?_)) sn_x0
                      refine sn_if_eq hO 105 (by decide) dX9_ahead_98 ?_ ?_
                      · exact hk27
                      · refine sn_iconst hO kc_1 dX9_ahead_101 ?_
                        refine sn_goto hO 106 (by decide) dX9_ahead_102 ?_
                        exact hk18 _
          · intro k9 hk9
            refine sn_if_ne hO 57 (by decide) dX9_ahead_50 ?_ ?_
            · refine sn_iconst hO kc_0 dX9_ahead_57 ?_
              exact hk9 _
            · refine sn_iconst hO kc_1 dX9_ahead_53 ?_
              refine sn_goto hO 58 (by decide) dX9_ahead_54 ?_
              exact hk9 _
      · refine sn_iconst hO kc_m1 dX9_ahead_26 ?_
        subst hQq
        exact sn_iret hO rfl dX9_ahead_27
theorem ctX9_ahead {w : sn_W} {p1 : Int32} {p2 : Int32} {S : sn_S} {Q : Int32 → sn_S → Prop} (h : wpX9_ahead p1 p2 S Q) : sn_Ct LoM w yX9_ahead (ws_ yX9_ahead cX9_ahead 7 (some .int)) rmX9_ahead [.ref (w.2.2.1 0), .int p1, .int p2] S (sn_qI Q) sn_noE := sn_Ct_of (LoM_X w) (by decide) (Nat.le_of_ble_eq_true rfl) RX9 rfl (fun C hO => wkX9_ahead hO p1 p2 S Q h)
def rmX9_hunt : Room := { frames := 7, cells := 0, slots := 0, locals := 186 }
/-- SnailPostModel.hunt(I)I -/
def wpX9_hunt (p1 : Int32) (S : sn_S) (Q : Int32 → sn_S → Prop) : Prop :=
  sn_lt (sn_pI S 0 0 0) (fun S1 => wpX9_in (Int32.toInt64 p1) 0 1000000 (fun (r2 : Int32) => ((¬ r2 = 0 → sn_lt (sn_pJ S1 0 55 (Int32.toInt64 p1)) (fun S3 => wpX9_dawn S3 (fun (S4 : sn_S) => sn_jn (fun (S5 : sn_S) => sn_jn (fun (v7 : Int32) (S8 : sn_S) => (vp_in 0 5680 ∧ sn_lt (sn_pI S8 0 59 (S8.1 2 (0 : Int32).toNatClampNeg)) (fun S10 => sn_jn (fun (S11 : sn_S) => wpX9_tell v7 S11 (fun (r13 : Int32) (S14 : sn_S) => Q r13 S14)) (fun (k12 : sn_S → Prop) => sn_lp2 (fun (rc17 : Int32 → sn_S → Prop) (i15 : Int32) (S16 : sn_S) => (((S16.1 0 59) ≤ i15 → k12 S16) ∧ (¬ (S16.1 0 59) ≤ i15 → (vp_in i15 6 ∧ (vp_in i15 6 ∧ sn_lt (sn_pI S16 35 (i15).toNatClampNeg (S16.1 16 (i15).toNatClampNeg)) (fun S18 => (vp_in i15 6 ∧ (vp_in i15 6 ∧ sn_lt (sn_pI S18 36 (i15).toNatClampNeg (S18.1 15 (i15).toNatClampNeg)) (fun S19 => rc17 (i15 + 1) S19))))))))) 0 S10)))) (fun (k9 : Int32 → sn_S → Prop) => sn_lp3 (fun (rc23 : Int32 → Int32 → sn_S → Prop) (i20 : Int32) (i21 : Int32) (S22 : sn_S) => ((5 ≤ i21 → k9 i20 S22) ∧ (¬ 5 ≤ i21 → (vp_in (7 + i21) 5680 ∧ wpX9_runHour i21 (S22.1 2 ((7 + i21)).toNatClampNeg) S22 (fun (S24 : sn_S) => sn_jn (fun (v25 : Int32) (S26 : sn_S) => rc23 v25 (i21 + 1) S26) (fun (k27 : Int32 → sn_S → Prop) => sn_lp3 (fun (rc31 : Int32 → Int32 → sn_S → Prop) (i28 : Int32) (i29 : Int32) (S30 : sn_S) => (vp_in 0 5680 ∧ (((S30.1 2 (0 : Int32).toNatClampNeg) ≤ i29 → k27 i28 S30) ∧ (¬ (S30.1 2 (0 : Int32).toNatClampNeg) ≤ i29 → (vp_in i29 6 ∧ sn_jn (fun (v32 : Int32) (S33 : sn_S) => rc31 v32 (i29 + 1) S33) (fun (k34 : Int32 → sn_S → Prop) => ((¬ (S30.1 16 (i29).toNatClampNeg) = (-1) → k34 i28 S30) ∧ ((S30.1 16 (i29).toNatClampNeg) = (-1) → (vp_in i29 6 ∧ ((¬ (S30.1 17 (i29).toNatClampNeg) = 0 → k34 i28 S30) ∧ ((S30.1 17 (i29).toNatClampNeg) = 0 → sn_lt (sn_pJ S30 0 55 ((((S30.2.1 0 55) * 1103) + 12345) - (((S30.2.1 0 55) * 1103) + 12345) / 1000003 * 1000003)) (fun S35 => (vp_in i29 6 ∧ (vp_in (7 + i21) 5680 ∧ wpX9_tells 1 i29 (S35.1 15 (i29).toNatClampNeg) i21 (S35.1 2 ((7 + i21)).toNatClampNeg) 0 S35 (fun (r36 : Int64) (S37 : sn_S) => ((0 ≤ (lg_cmp ((S37.2.1 0 55) - (S37.2.1 0 55) / 100 * 100) r36) → k34 i28 S37) ∧ (¬ 0 ≤ (lg_cmp ((S37.2.1 0 55) - (S37.2.1 0 55) / 100 * 100) r36) → (vp_in i29 6 ∧ sn_lt (sn_pI S37 17 (i29).toNatClampNeg (vp_nar .boolean 1)) (fun S38 => (vp_in i29 6 ∧ sn_lt (sn_pI S38 34 (i29).toNatClampNeg i21) (fun S39 => k34 (i28 + 1) S39))))))))))))))))))))) i20 0 S24)))))) 0 0 S5)) (fun (k6 : sn_S → Prop) => sn_lp2 (fun (rc42 : Int32 → sn_S → Prop) (i40 : Int32) (S41 : sn_S) => ((6 ≤ i40 → k6 S41) ∧ (¬ 6 ≤ i40 → (vp_in i40 6 ∧ sn_lt (sn_pI S41 34 (i40).toNatClampNeg (-1)) (fun S43 => rc42 (i40 + 1) S43))))) 0 S4)))) ∧ (r2 = 0 → wpX9_tell (-1) S1 (fun (r44 : Int32) (S45 : sn_S) => Q r44 S45)))))
theorem wkX9_hunt {w : sn_W} {C : sn_C} (hO : sn_Ok LoM w C RX9 cX9_hunt 7 (some .int) [] "hunt") (p1 : Int32) (S : sn_S) (Q : Int32 → sn_S → Prop) : wpX9_hunt p1 S Q → sn_G LoM w rmX9_hunt (sn_qI Q) sn_noE C 0 0 0 [(0, .ref (w.2.2.1 0)), (1, .int p1)] [] S := by
  unfold wpX9_hunt
  generalize hQq : (sn_qI Q) = Qq
  refine sn_aload_n hO 0 rfl dX9_hunt_0 ?_
  refine sn_iconst hO kc_0 dX9_hunt_1 ?_
  refine sn_putI hO fmX9_150 atM_0 rfl rfl dX9_hunt_2 ?_
  refine sn_nmS (fun S1 => ?_)
  refine sn_iload_n hO 1 rfl dX9_hunt_5 ?_
  refine sn_i2l hO dX9_hunt_6 ?_
  refine sn_lconst hO (v := 0) rfl dX9_hunt_7 ?_
  refine sn_ldc2 hO q1765 dX9_hunt_8 ?_
  refine sn_callS hO (c2 := 0) (s2 := 0) [.long (Int32.toInt64 p1), .long 0, .long 1000000] csX9_160 ctX9_in ⟨Nat.le_of_ble_eq_true rfl, Nat.le_of_ble_eq_true rfl⟩ rfl rfl (Nat.le_of_ble_eq_true rfl) ⟨Nat.le_of_ble_eq_true rfl, Nat.le_of_ble_eq_true rfl, rfl, rfl⟩ dX9_hunt_11 (sn_bIp (fun r2 => ?_)) sn_x0
  refine sn_if_ne hO 23 (by decide) dX9_hunt_14 ?_ ?_
  · refine sn_aload_n hO 0 rfl dX9_hunt_23 ?_
    refine sn_iload_n hO 1 rfl dX9_hunt_24 ?_
    refine sn_i2l hO dX9_hunt_25 ?_
    refine sn_putJ hO fmX9_485 atM_0 rfl rfl dX9_hunt_26 ?_
    refine sn_nmS (fun S3 => ?_)
    refine sn_aload_n hO 0 rfl dX9_hunt_29 ?_
    refine sn_callV hO (c2 := 0) (s2 := 0) [] cvX9_401 (fun _ => sn_Rv_K atM_0) ctX9_dawn ⟨Nat.le_of_ble_eq_true rfl, Nat.le_of_ble_eq_true rfl⟩ rfl rfl (Nat.le_of_ble_eq_true rfl) ⟨Nat.le_of_ble_eq_true rfl, Nat.le_of_ble_eq_true rfl, rfl, rfl⟩ dX9_hunt_30 (sn_bV (fun S4 => ?_)) sn_x0
    refine sn_iconst hO kc_0 dX9_hunt_33 ?_
    refine sn_istore_n hO (lv' := [(2, .int 0), (0, .ref (w.2.2.1 0)), (1, .int p1)]) (by decide) rfl dX9_hunt_34 ?_
    refine sn_iconst hO kc_0 dX9_hunt_35 ?_
    refine sn_istore_n hO (lv' := [(3, .int 0), (2, .int 0), (0, .ref (w.2.2.1 0)), (1, .int p1)]) (by decide) rfl dX9_hunt_36 ?_
    refine sn_jn_walk (fun (k : sn_S → Prop) => ∀ (S5 : sn_S), k S5 → sn_G LoM w rmX9_hunt Qq sn_noE C 0 0 56 [(0, .ref (w.2.2.1 0)), (2, .int 0)] [] S5) ?_ ?_
    · intro S5
      refine sn_iconst hO kc_0 dX9_hunt_56 ?_
      refine sn_istore_n hO (lv' := [(3, .int 0), (0, .ref (w.2.2.1 0)), (2, .int 0)]) (by decide) rfl dX9_hunt_57 ?_
      refine sn_jn_walk (fun (k : Int32 → sn_S → Prop) => ∀ (v7 : Int32) (S8 : sn_S), k v7 S8 → sn_G LoM w rmX9_hunt Qq sn_noE C 0 0 204 [(0, .ref (w.2.2.1 0)), (2, .int v7)] [] S8) ?_ ?_
      · intro v7 S8
        refine sn_aload_n hO 0 rfl dX9_hunt_204 ?_
        refine sn_aload_n hO 0 rfl dX9_hunt_205 ?_
        refine sn_getF hO fmX9_13 atM_0 dX9_hunt_206 ?_
        refine sn_iconst hO kc_0 dX9_hunt_209 ?_
        refine sn_iald hO atM_2 rfl dX9_hunt_210 ?_
        refine sn_putI hO fmX9_494 atM_0 rfl rfl dX9_hunt_211 ?_
        refine sn_nmS (fun S10 => ?_)
        refine sn_iconst hO kc_0 dX9_hunt_214 ?_
        refine sn_istore_n hO (lv' := [(3, .int 0), (0, .ref (w.2.2.1 0)), (2, .int v7)]) (by decide) rfl dX9_hunt_215 ?_
        refine sn_jn_walk (fun (k : sn_S → Prop) => ∀ (S11 : sn_S), k S11 → sn_G LoM w rmX9_hunt Qq sn_noE C 0 0 254 [(0, .ref (w.2.2.1 0)), (2, .int v7)] [] S11) ?_ ?_
        · intro S11
          refine sn_aload_n hO 0 rfl dX9_hunt_254 ?_
          refine sn_iload_n hO 1 rfl dX9_hunt_255 ?_
          refine sn_callV hO (c2 := 0) (s2 := 0) [.int v7] cvX9_164 (fun _ => sn_Rv_K atM_0) ctX9_tell ⟨Nat.le_of_ble_eq_true rfl, Nat.le_of_ble_eq_true rfl⟩ rfl rfl (Nat.le_of_ble_eq_true rfl) ⟨Nat.le_of_ble_eq_true rfl, Nat.le_of_ble_eq_true rfl, rfl, rfl⟩ dX9_hunt_256 (sn_bI (fun r13 S14 => ?_)) sn_x0
          subst hQq
          exact sn_iret hO rfl dX9_hunt_259
        · intro k12 hk12
          refine sn_sub [1, 2, 0] rfl ?_
          refine sn_lp2_walk (Gd := fun (i15 : Int32) (S16 : sn_S) => sn_G LoM w rmX9_hunt Qq sn_noE C 0 0 216 [(0, .ref (w.2.2.1 0)), (2, .int v7), (3, .int i15)] [] S16) ?_ _ _
          intro rc17 hrc17 i15 S16
          refine sn_iload_n hO 2 rfl dX9_hunt_216 ?_
          refine sn_aload_n hO 0 rfl dX9_hunt_217 ?_
          refine sn_getI hO fmX9_494 atM_0 dX9_hunt_218 ?_
          refine sn_icmp_ge hO 254 (by decide) dX9_hunt_221 ?_ ?_
          · refine sn_sub [0, 1] rfl ?_
            exact hk12 _
          · refine sn_aload_n hO 0 rfl dX9_hunt_224 ?_
            refine sn_getF hO fmX9_144 atM_0 dX9_hunt_225 ?_
            refine sn_iload_n hO 2 rfl dX9_hunt_228 ?_
            refine sn_aload_n hO 0 rfl dX9_hunt_229 ?_
            refine sn_getF hO fmX9_87 atM_0 dX9_hunt_230 ?_
            refine sn_iload_n hO 2 rfl dX9_hunt_233 ?_
            refine sn_iald hO atM_16 rfl dX9_hunt_234 ?_
            refine sn_iast hO atM_35 rfl dX9_hunt_235 ?_
            refine sn_nmS (fun S18 => ?_)
            refine sn_aload_n hO 0 rfl dX9_hunt_236 ?_
            refine sn_getF hO fmX9_147 atM_0 dX9_hunt_237 ?_
            refine sn_iload_n hO 2 rfl dX9_hunt_240 ?_
            refine sn_aload_n hO 0 rfl dX9_hunt_241 ?_
            refine sn_getF hO fmX9_84 atM_0 dX9_hunt_242 ?_
            refine sn_iload_n hO 2 rfl dX9_hunt_245 ?_
            refine sn_iald hO atM_15 rfl dX9_hunt_246 ?_
            refine sn_iast hO atM_36 rfl dX9_hunt_247 ?_
            refine sn_nmS (fun S19 => ?_)
            refine sn_iinc hO (lv' := [(3, .int (i15 + 1)), (0, .ref (w.2.2.1 0)), (2, .int v7)]) 2 rfl ki_1 (by decide) rfl dX9_hunt_248 ?_
            refine sn_goto hO 216 (by decide) dX9_hunt_251 ?_
            refine sn_sub [1, 2, 0] rfl ?_
            exact hrc17 _ _
      · intro k9 hk9
        refine sn_sub [1, 2, 0] rfl ?_
        refine sn_lp3_walk (Gd := fun (i20 : Int32) (i21 : Int32) (S22 : sn_S) => sn_G LoM w rmX9_hunt Qq sn_noE C 0 0 58 [(0, .ref (w.2.2.1 0)), (2, .int i20), (3, .int i21)] [] S22) ?_ _ _ _
        intro rc23 hrc23 i20 i21 S22
        refine sn_iload_n hO 2 rfl dX9_hunt_58 ?_
        refine sn_iconst hO kc_5 dX9_hunt_59 ?_
        refine sn_icmp_ge hO 204 (by decide) dX9_hunt_60 ?_ ?_
        · refine sn_sub [0, 1] rfl ?_
          exact hk9 _ _
        · refine sn_aload_n hO 0 rfl dX9_hunt_63 ?_
          refine sn_iload_n hO 2 rfl dX9_hunt_64 ?_
          refine sn_aload_n hO 0 rfl dX9_hunt_65 ?_
          refine sn_getF hO fmX9_13 atM_0 dX9_hunt_66 ?_
          refine sn_bipush hO kb_7 dX9_hunt_69 ?_
          refine sn_iload_n hO 2 rfl dX9_hunt_71 ?_
          refine sn_iadd hO dX9_hunt_72 ?_
          refine sn_iald hO atM_2 rfl dX9_hunt_73 ?_
          refine sn_callV hO (c2 := 0) (s2 := 0) [.int i21, .int (S22.1 2 ((7 + i21)).toNatClampNeg)] cvX9_404 (fun _ => sn_Rv_K atM_0) ctX9_runHour ⟨Nat.le_of_ble_eq_true rfl, Nat.le_of_ble_eq_true rfl⟩ rfl rfl (Nat.le_of_ble_eq_true rfl) ⟨Nat.le_of_ble_eq_true rfl, Nat.le_of_ble_eq_true rfl, rfl, rfl⟩ dX9_hunt_74 (sn_bV (fun S24 => ?_)) sn_x0
          refine sn_iconst hO kc_0 dX9_hunt_77 ?_
          refine sn_istore hO (lv' := [(4, .int 0), (0, .ref (w.2.2.1 0)), (2, .int i20), (3, .int i21)]) (by decide) rfl dX9_hunt_78 ?_
          refine sn_jn_walk (fun (k : Int32 → sn_S → Prop) => ∀ (v25 : Int32) (S26 : sn_S), k v25 S26 → sn_G LoM w rmX9_hunt Qq sn_noE C 0 0 198 [(0, .ref (w.2.2.1 0)), (2, .int v25), (3, .int i21)] [] S26) ?_ ?_
          · intro v25 S26
            refine sn_iinc hO (lv' := [(3, .int (i21 + 1)), (0, .ref (w.2.2.1 0)), (2, .int v25)]) 2 rfl ki_1 (by decide) rfl dX9_hunt_198 ?_
            refine sn_goto hO 58 (by decide) dX9_hunt_201 ?_
            refine sn_sub [1, 2, 0] rfl ?_
            exact hrc23 _ _ _
          · intro k27 hk27
            refine sn_sub [1, 2, 3, 0] rfl ?_
            refine sn_lp3_walk (Gd := fun (i28 : Int32) (i29 : Int32) (S30 : sn_S) => sn_G LoM w rmX9_hunt Qq sn_noE C 0 0 80 [(0, .ref (w.2.2.1 0)), (2, .int i28), (3, .int i21), (4, .int i29)] [] S30) ?_ _ _ _
            intro rc31 hrc31 i28 i29 S30
            refine sn_iload hO 3 rfl dX9_hunt_80 ?_
            refine sn_aload_n hO 0 rfl dX9_hunt_82 ?_
            refine sn_getF hO fmX9_13 atM_0 dX9_hunt_83 ?_
            refine sn_iconst hO kc_0 dX9_hunt_86 ?_
            refine sn_iald hO atM_2 rfl dX9_hunt_87 ?_
            refine sn_icmp_ge hO 198 (by decide) dX9_hunt_88 ?_ ?_
            · refine sn_sub [0, 1, 2] rfl ?_
              exact hk27 _ _
            · refine sn_aload_n hO 0 rfl dX9_hunt_91 ?_
              refine sn_getF hO fmX9_87 atM_0 dX9_hunt_92 ?_
              refine sn_iload hO 3 rfl dX9_hunt_95 ?_
              refine sn_iald hO atM_16 rfl dX9_hunt_97 ?_
              refine sn_iconst hO kc_m1 dX9_hunt_98 ?_
              refine sn_jn_walk (fun (k : Int32 → sn_S → Prop) => ∀ (v32 : Int32) (S33 : sn_S), k v32 S33 → sn_G LoM w rmX9_hunt Qq sn_noE C 0 0 192 [(0, .ref (w.2.2.1 0)), (2, .int v32), (3, .int i21), (4, .int i29)] [] S33) ?_ ?_
              · intro v32 S33
                refine sn_iinc hO (lv' := [(4, .int (i29 + 1)), (0, .ref (w.2.2.1 0)), (2, .int v32), (3, .int i21)]) 3 rfl ki_1 (by decide) rfl dX9_hunt_192 ?_
                refine sn_goto hO 80 (by decide) dX9_hunt_195 ?_
                refine sn_sub [1, 2, 3, 0] rfl ?_
                exact hrc31 _ _ _
              · intro k34 hk34
                refine sn_icmp_ne hO 192 (by decide) dX9_hunt_99 ?_ ?_
                · exact hk34 _ _
                · refine sn_aload_n hO 0 rfl dX9_hunt_102 ?_
                  refine sn_getF hO fmX9_90 atM_0 dX9_hunt_103 ?_
                  refine sn_iload hO 3 rfl dX9_hunt_106 ?_
                  refine sn_zald hO atM_17 rfl dX9_hunt_108 ?_
                  refine sn_if_ne hO 192 (by decide) dX9_hunt_109 ?_ ?_
                  · exact hk34 _ _
                  · refine sn_aload_n hO 0 rfl dX9_hunt_112 ?_
                    refine sn_aload_n hO 0 rfl dX9_hunt_113 ?_
                    refine sn_getJ hO fmX9_485 atM_0 dX9_hunt_114 ?_
                    refine sn_ldc2 hO q2054 dX9_hunt_117 ?_
                    refine sn_lmul hO dX9_hunt_120 ?_
                    refine sn_ldc2 hO q2055 dX9_hunt_121 ?_
                    refine sn_ladd hO dX9_hunt_124 ?_
                    refine sn_ldc2 hO q2056 dX9_hunt_125 ?_
                    refine sn_lrem hO (by decide) dX9_hunt_128 ?_
                    refine sn_putJ hO fmX9_485 atM_0 rfl rfl dX9_hunt_129 ?_
                    refine sn_nmS (fun S35 => ?_)
                    refine sn_aload_n hO 0 rfl dX9_hunt_132 ?_
                    refine sn_iconst hO kc_1 dX9_hunt_133 ?_
                    refine sn_iload hO 3 rfl dX9_hunt_134 ?_
                    refine sn_aload_n hO 0 rfl dX9_hunt_136 ?_
                    refine sn_getF hO fmX9_84 atM_0 dX9_hunt_137 ?_
                    refine sn_iload hO 3 rfl dX9_hunt_140 ?_
                    refine sn_iald hO atM_15 rfl dX9_hunt_142 ?_
                    refine sn_iload_n hO 2 rfl dX9_hunt_143 ?_
                    refine sn_aload_n hO 0 rfl dX9_hunt_144 ?_
                    refine sn_getF hO fmX9_13 atM_0 dX9_hunt_145 ?_
                    refine sn_bipush hO kb_7 dX9_hunt_148 ?_
                    refine sn_iload_n hO 2 rfl dX9_hunt_150 ?_
                    refine sn_iadd hO dX9_hunt_151 ?_
                    refine sn_iald hO atM_2 rfl dX9_hunt_152 ?_
                    refine sn_lconst hO (v := 0) rfl dX9_hunt_153 ?_
                    refine sn_callV hO (c2 := 0) (s2 := 0) [.int 1, .int i29, .int (S35.1 15 (i29).toNatClampNeg), .int i21, .int (S35.1 2 ((7 + i21)).toNatClampNeg), .long 0] cvX9_385 (fun _ => sn_Rv_K atM_0) ctX9_tells ⟨Nat.le_of_ble_eq_true rfl, Nat.le_of_ble_eq_true rfl⟩ rfl rfl (Nat.le_of_ble_eq_true rfl) ⟨Nat.le_of_ble_eq_true rfl, Nat.le_of_ble_eq_true rfl, rfl, rfl⟩ dX9_hunt_154 (sn_bL (fun r36 S37 => ?_)) sn_x0
                    refine sn_lstore hO (lv' := [(5, .long r36), (0, .ref (w.2.2.1 0)), (2, .int i28), (3, .int i21), (4, .int i29)]) (by decide) rfl dX9_hunt_157 ?_
                    refine sn_aload_n hO 1 rfl dX9_hunt_159 ?_
                    refine sn_getJ hO fmX9_485 atM_0 dX9_hunt_160 ?_
                    refine sn_ldc2 hO q1695 dX9_hunt_163 ?_
                    refine sn_lrem hO (by decide) dX9_hunt_166 ?_
                    refine sn_lload hO 0 rfl dX9_hunt_167 ?_
                    refine sn_lcmp hO dX9_hunt_169 ?_
                    refine sn_if_ge hO 192 (by decide) dX9_hunt_170 ?_ ?_
                    · refine sn_sub [1, 2, 3, 4] rfl ?_
                      exact hk34 _ _
                    · refine sn_aload_n hO 1 rfl dX9_hunt_173 ?_
                      refine sn_getF hO fmX9_90 atM_0 dX9_hunt_174 ?_
                      refine sn_iload hO 4 rfl dX9_hunt_177 ?_
                      refine sn_iconst hO kc_1 dX9_hunt_179 ?_
                      refine sn_zast hO atM_17 rfl dX9_hunt_180 ?_
                      refine sn_nmS (fun S38 => ?_)
                      refine sn_aload_n hO 1 rfl dX9_hunt_181 ?_
                      refine sn_getF hO fmX9_141 atM_0 dX9_hunt_182 ?_
                      refine sn_iload hO 4 rfl dX9_hunt_185 ?_
                      refine sn_iload_n hO 3 rfl dX9_hunt_187 ?_
                      refine sn_iast hO atM_34 rfl dX9_hunt_188 ?_
                      refine sn_nmS (fun S39 => ?_)
                      refine sn_iinc hO (lv' := [(2, .int (i28 + 1)), (5, .long r36), (0, .ref (w.2.2.1 0)), (3, .int i21), (4, .int i29)]) 2 rfl ki_1 (by decide) rfl dX9_hunt_189 ?_
                      refine sn_sub [2, 0, 3, 4] rfl ?_
                      exact hk34 _ _
    · intro k6 hk6
      refine sn_sub [2, 1, 0] rfl ?_
      refine sn_lp2_walk (Gd := fun (i40 : Int32) (S41 : sn_S) => sn_G LoM w rmX9_hunt Qq sn_noE C 0 0 37 [(0, .ref (w.2.2.1 0)), (2, .int 0), (3, .int i40)] [] S41) ?_ _ _
      intro rc42 hrc42 i40 S41
      refine sn_iload_n hO 2 rfl dX9_hunt_37 ?_
      refine sn_bipush hO kb_6 dX9_hunt_38 ?_
      refine sn_icmp_ge hO 56 (by decide) dX9_hunt_40 ?_ ?_
      · refine sn_sub [0, 1] rfl ?_
        exact hk6 _
      · refine sn_aload_n hO 0 rfl dX9_hunt_43 ?_
        refine sn_getF hO fmX9_141 atM_0 dX9_hunt_44 ?_
        refine sn_iload_n hO 2 rfl dX9_hunt_47 ?_
        refine sn_iconst hO kc_m1 dX9_hunt_48 ?_
        refine sn_iast hO atM_34 rfl dX9_hunt_49 ?_
        refine sn_nmS (fun S43 => ?_)
        refine sn_iinc hO (lv' := [(3, .int (i40 + 1)), (0, .ref (w.2.2.1 0)), (2, .int 0)]) 2 rfl ki_1 (by decide) rfl dX9_hunt_50 ?_
        refine sn_goto hO 37 (by decide) dX9_hunt_53 ?_
        refine sn_sub [1, 2, 0] rfl ?_
        exact hrc42 _ _
  · refine sn_aload_n hO 0 rfl dX9_hunt_17 ?_
    refine sn_iconst hO kc_m1 dX9_hunt_18 ?_
    refine sn_callV hO (c2 := 0) (s2 := 0) [.int (-1)] cvX9_164 (fun _ => sn_Rv_K atM_0) ctX9_tell ⟨Nat.le_of_ble_eq_true rfl, Nat.le_of_ble_eq_true rfl⟩ rfl rfl (Nat.le_of_ble_eq_true rfl) ⟨Nat.le_of_ble_eq_true rfl, Nat.le_of_ble_eq_true rfl, rfl, rfl⟩ dX9_hunt_19 (sn_bI (fun r44 S45 => ?_)) sn_x0
    subst hQq
    exact sn_iret hO rfl dX9_hunt_22
theorem ctX9_hunt {w : sn_W} {p1 : Int32} {S : sn_S} {Q : Int32 → sn_S → Prop} (h : wpX9_hunt p1 S Q) : sn_Ct LoM w yX9_hunt (ws_ yX9_hunt cX9_hunt 7 (some .int)) rmX9_hunt [.ref (w.2.2.1 0), .int p1] S (sn_qI Q) sn_noE := sn_Ct_of (LoM_X w) (by decide) (Nat.le_of_ble_eq_true rfl) RX9 rfl (fun C hO => wkX9_hunt hO p1 S Q h)
def rmX9_hunted : Room := { frames := 1, cells := 0, slots := 0, locals := 25 }
/-- SnailPostModel.hunted(II)I -/
def wpX9_hunted (p1 : Int32) (p2 : Int32) (S : sn_S) (Q : Int32 → sn_S → Prop) : Prop :=
  sn_lt (sn_pI S 0 0 0) (fun S1 => wpX9_in (Int32.toInt64 p1) 0 ((Int32.toInt64 (S1.1 0 59)) - 1) (fun (r2 : Int32) => ((¬ r2 = 0 → sn_sw p2 0 [(vp_in p1 6 ∧ Q (S1.1 34 (p1).toNatClampNeg) S1), (vp_in p1 6 ∧ Q (S1.1 35 (p1).toNatClampNeg) S1), (vp_in p1 6 ∧ Q (S1.1 36 (p1).toNatClampNeg) S1)] (Q (-1) S1)) ∧ (r2 = 0 → Q (-1) S1))))
theorem wkX9_hunted {w : sn_W} {C : sn_C} (hO : sn_Ok LoM w C RX9 cX9_hunted 3 (some .int) [] "hunted") (p1 : Int32) (p2 : Int32) (S : sn_S) (Q : Int32 → sn_S → Prop) : wpX9_hunted p1 p2 S Q → sn_G LoM w rmX9_hunted (sn_qI Q) sn_noE C 0 0 0 [(0, .ref (w.2.2.1 0)), (1, .int p1), (2, .int p2)] [] S := by
  unfold wpX9_hunted
  generalize hQq : (sn_qI Q) = Qq
  refine sn_aload_n hO 0 rfl dX9_hunted_0 ?_
  refine sn_iconst hO kc_0 dX9_hunted_1 ?_
  refine sn_putI hO fmX9_150 atM_0 rfl rfl dX9_hunted_2 ?_
  refine sn_nmS (fun S1 => ?_)
  refine sn_iload_n hO 1 rfl dX9_hunted_5 ?_
  refine sn_i2l hO dX9_hunted_6 ?_
  refine sn_lconst hO (v := 0) rfl dX9_hunted_7 ?_
  refine sn_aload_n hO 0 rfl dX9_hunted_8 ?_
  refine sn_getI hO fmX9_494 atM_0 dX9_hunted_9 ?_
  refine sn_i2l hO dX9_hunted_12 ?_
  refine sn_lconst hO (v := 1) rfl dX9_hunted_13 ?_
  refine sn_lsub hO dX9_hunted_14 ?_
  refine sn_callS hO (c2 := 0) (s2 := 0) [.long (Int32.toInt64 p1), .long 0, .long ((Int32.toInt64 (S1.1 0 59)) - 1)] csX9_160 ctX9_in ⟨Nat.le_of_ble_eq_true rfl, Nat.le_of_ble_eq_true rfl⟩ rfl rfl (Nat.le_of_ble_eq_true rfl) ⟨Nat.le_of_ble_eq_true rfl, Nat.le_of_ble_eq_true rfl, rfl, rfl⟩ dX9_hunted_15 (sn_bIp (fun r2 => ?_)) sn_x0
  refine sn_if_ne hO 23 (by decide) dX9_hunted_18 ?_ ?_
  · refine sn_iload_n hO 2 rfl dX9_hunted_23 ?_
    refine sn_tsw hO [52, 59, 66] 73 (by decide) (by decide) (by decide) dX9_hunted_24 ?_ ?_
    · refine ⟨?_, ?_, ?_, trivial⟩
      · refine sn_aload_n hO 0 rfl dX9_hunted_52 ?_
        refine sn_getF hO fmX9_141 atM_0 dX9_hunted_53 ?_
        refine sn_iload_n hO 1 rfl dX9_hunted_56 ?_
        refine sn_iald hO atM_34 rfl dX9_hunted_57 ?_
        subst hQq
        exact sn_iret hO rfl dX9_hunted_58
      · refine sn_aload_n hO 0 rfl dX9_hunted_59 ?_
        refine sn_getF hO fmX9_144 atM_0 dX9_hunted_60 ?_
        refine sn_iload_n hO 1 rfl dX9_hunted_63 ?_
        refine sn_iald hO atM_35 rfl dX9_hunted_64 ?_
        subst hQq
        exact sn_iret hO rfl dX9_hunted_65
      · refine sn_aload_n hO 0 rfl dX9_hunted_66 ?_
        refine sn_getF hO fmX9_147 atM_0 dX9_hunted_67 ?_
        refine sn_iload_n hO 1 rfl dX9_hunted_70 ?_
        refine sn_iald hO atM_36 rfl dX9_hunted_71 ?_
        subst hQq
        exact sn_iret hO rfl dX9_hunted_72
    · refine sn_iconst hO kc_m1 dX9_hunted_73 ?_
      subst hQq
      exact sn_iret hO rfl dX9_hunted_74
  · refine sn_iconst hO kc_m1 dX9_hunted_21 ?_
    subst hQq
    exact sn_iret hO rfl dX9_hunted_22
theorem ctX9_hunted {w : sn_W} {p1 : Int32} {p2 : Int32} {S : sn_S} {Q : Int32 → sn_S → Prop} (h : wpX9_hunted p1 p2 S Q) : sn_Ct LoM w yX9_hunted (ws_ yX9_hunted cX9_hunted 3 (some .int)) rmX9_hunted [.ref (w.2.2.1 0), .int p1, .int p2] S (sn_qI Q) sn_noE := sn_Ct_of (LoM_X w) (by decide) (Nat.le_of_ble_eq_true rfl) RX9 rfl (fun C hO => wkX9_hunted hO p1 p2 S Q h)
def rmX9_count : Room := { frames := 0, cells := 0, slots := 0, locals := 0 }
/-- SnailPostModel.count(I)I -/
def wpX9_count (p1 : Int32) (S : sn_S) (Q : Int32 → sn_S → Prop) : Prop :=
  sn_lt (sn_pI S 0 0 0) (fun S1 => sn_jn (fun (v2 : Int32) (v3 : Int32) => sn_sw p1 0 [(vp_in 0 5680 ∧ Q (S1.1 2 (0 : Int32).toNatClampNeg) S1), (vp_in 1 5680 ∧ Q (S1.1 2 (1 : Int32).toNatClampNeg) S1), (vp_in 2 5680 ∧ Q (S1.1 2 (2 : Int32).toNatClampNeg) S1), (vp_in 4 5680 ∧ Q (S1.1 2 (4 : Int32).toNatClampNeg) S1), Q v2 S1, Q v3 S1, Q (S1.1 0 8) S1, (vp_in 1 7 ∧ Q (S1.1 1 (1 : Int32).toNatClampNeg) S1), (vp_in 2 7 ∧ Q (S1.1 1 (2 : Int32).toNatClampNeg) S1), (vp_in 3 7 ∧ Q (S1.1 1 (3 : Int32).toNatClampNeg) S1), (vp_in 5 7 ∧ Q (S1.1 1 (5 : Int32).toNatClampNeg) S1), (vp_in 6 7 ∧ Q (S1.1 1 (6 : Int32).toNatClampNeg) S1), (vp_in 3 5680 ∧ Q (S1.1 2 (3 : Int32).toNatClampNeg) S1), (vp_in 5 5680 ∧ Q (S1.1 2 (5 : Int32).toNatClampNeg) S1), (vp_in 6 5680 ∧ Q (S1.1 2 (6 : Int32).toNatClampNeg) S1)] (Q (-1) S1)) (fun (k4 : Int32 → Int32 → Prop) => sn_lp3 (fun (rc8 : Int32 → Int32 → Int32 → Prop) (i5 : Int32) (i6 : Int32) (i7 : Int32) => ((96 ≤ i7 → k4 i5 i6) ∧ (¬ 96 ≤ i7 → (vp_in (176 + i7) 5680 ∧ sn_lt (i5 + (S1.1 2 ((176 + i7)).toNatClampNeg)) (fun x9 => (vp_in (80 + i7) 5680 ∧ sn_lt (i6 + (S1.1 2 ((80 + i7)).toNatClampNeg)) (fun x10 => rc8 x9 x10 (i7 + 1)))))))) 0 0 0))
theorem wkX9_count {w : sn_W} {C : sn_C} (hO : sn_Ok LoM w C RX9 cX9_count 5 (some .int) [] "count") (p1 : Int32) (S : sn_S) (Q : Int32 → sn_S → Prop) : wpX9_count p1 S Q → sn_G LoM w rmX9_count (sn_qI Q) sn_noE C 0 0 0 [(0, .ref (w.2.2.1 0)), (1, .int p1)] [] S := by
  unfold wpX9_count
  generalize hQq : (sn_qI Q) = Qq
  refine sn_aload_n hO 0 rfl dX9_count_0 ?_
  refine sn_iconst hO kc_0 dX9_count_1 ?_
  refine sn_putI hO fmX9_150 atM_0 rfl rfl dX9_count_2 ?_
  refine sn_nmS (fun S1 => ?_)
  refine sn_iconst hO kc_0 dX9_count_5 ?_
  refine sn_istore_n hO (lv' := [(2, .int 0), (0, .ref (w.2.2.1 0)), (1, .int p1)]) (by decide) rfl dX9_count_6 ?_
  refine sn_iconst hO kc_0 dX9_count_7 ?_
  refine sn_istore_n hO (lv' := [(3, .int 0), (2, .int 0), (0, .ref (w.2.2.1 0)), (1, .int p1)]) (by decide) rfl dX9_count_8 ?_
  refine sn_iconst hO kc_0 dX9_count_9 ?_
  refine sn_istore hO (lv' := [(4, .int 0), (3, .int 0), (2, .int 0), (0, .ref (w.2.2.1 0)), (1, .int p1)]) (by decide) rfl dX9_count_10 ?_
  refine sn_jn_walk (fun (k : Int32 → Int32 → Prop) => ∀ (v2 : Int32) (v3 : Int32), k v2 v3 → sn_G LoM w rmX9_count Qq sn_noE C 0 0 52 [(0, .ref (w.2.2.1 0)), (1, .int p1), (2, .int v2), (3, .int v3)] [] S1) ?_ ?_
  · intro v2 v3
    refine sn_iload_n hO 1 rfl dX9_count_52 ?_
    refine sn_tsw hO [128, 135, 142, 149, 156, 158, 160, 165, 172, 179, 186, 193, 201, 208, 215] 223 (by decide) (by decide) (by decide) dX9_count_53 ?_ ?_
    · refine ⟨?_, ?_, ?_, ?_, ?_, ?_, ?_, ?_, ?_, ?_, ?_, ?_, ?_, ?_, ?_, trivial⟩
      · refine sn_aload_n hO 0 rfl dX9_count_128 ?_
        refine sn_getF hO fmX9_13 atM_0 dX9_count_129 ?_
        refine sn_iconst hO kc_0 dX9_count_132 ?_
        refine sn_iald hO atM_2 rfl dX9_count_133 ?_
        subst hQq
        exact sn_iret hO rfl dX9_count_134
      · refine sn_aload_n hO 0 rfl dX9_count_135 ?_
        refine sn_getF hO fmX9_13 atM_0 dX9_count_136 ?_
        refine sn_iconst hO kc_1 dX9_count_139 ?_
        refine sn_iald hO atM_2 rfl dX9_count_140 ?_
        subst hQq
        exact sn_iret hO rfl dX9_count_141
      · refine sn_aload_n hO 0 rfl dX9_count_142 ?_
        refine sn_getF hO fmX9_13 atM_0 dX9_count_143 ?_
        refine sn_iconst hO kc_2 dX9_count_146 ?_
        refine sn_iald hO atM_2 rfl dX9_count_147 ?_
        subst hQq
        exact sn_iret hO rfl dX9_count_148
      · refine sn_aload_n hO 0 rfl dX9_count_149 ?_
        refine sn_getF hO fmX9_13 atM_0 dX9_count_150 ?_
        refine sn_iconst hO kc_4 dX9_count_153 ?_
        refine sn_iald hO atM_2 rfl dX9_count_154 ?_
        subst hQq
        exact sn_iret hO rfl dX9_count_155
      · refine sn_iload_n hO 2 rfl dX9_count_156 ?_
        subst hQq
        exact sn_iret hO rfl dX9_count_157
      · refine sn_iload_n hO 3 rfl dX9_count_158 ?_
        subst hQq
        exact sn_iret hO rfl dX9_count_159
      · refine sn_aload_n hO 0 rfl dX9_count_160 ?_
        refine sn_getI hO fmX9_206 atM_0 dX9_count_161 ?_
        subst hQq
        exact sn_iret hO rfl dX9_count_164
      · refine sn_aload_n hO 0 rfl dX9_count_165 ?_
        refine sn_getF hO fmX9_7 atM_0 dX9_count_166 ?_
        refine sn_iconst hO kc_1 dX9_count_169 ?_
        refine sn_iald hO atM_1 rfl dX9_count_170 ?_
        subst hQq
        exact sn_iret hO rfl dX9_count_171
      · refine sn_aload_n hO 0 rfl dX9_count_172 ?_
        refine sn_getF hO fmX9_7 atM_0 dX9_count_173 ?_
        refine sn_iconst hO kc_2 dX9_count_176 ?_
        refine sn_iald hO atM_1 rfl dX9_count_177 ?_
        subst hQq
        exact sn_iret hO rfl dX9_count_178
      · refine sn_aload_n hO 0 rfl dX9_count_179 ?_
        refine sn_getF hO fmX9_7 atM_0 dX9_count_180 ?_
        refine sn_iconst hO kc_3 dX9_count_183 ?_
        refine sn_iald hO atM_1 rfl dX9_count_184 ?_
        subst hQq
        exact sn_iret hO rfl dX9_count_185
      · refine sn_aload_n hO 0 rfl dX9_count_186 ?_
        refine sn_getF hO fmX9_7 atM_0 dX9_count_187 ?_
        refine sn_iconst hO kc_5 dX9_count_190 ?_
        refine sn_iald hO atM_1 rfl dX9_count_191 ?_
        subst hQq
        exact sn_iret hO rfl dX9_count_192
      · refine sn_aload_n hO 0 rfl dX9_count_193 ?_
        refine sn_getF hO fmX9_7 atM_0 dX9_count_194 ?_
        refine sn_bipush hO kb_6 dX9_count_197 ?_
        refine sn_iald hO atM_1 rfl dX9_count_199 ?_
        subst hQq
        exact sn_iret hO rfl dX9_count_200
      · refine sn_aload_n hO 0 rfl dX9_count_201 ?_
        refine sn_getF hO fmX9_13 atM_0 dX9_count_202 ?_
        refine sn_iconst hO kc_3 dX9_count_205 ?_
        refine sn_iald hO atM_2 rfl dX9_count_206 ?_
        subst hQq
        exact sn_iret hO rfl dX9_count_207
      · refine sn_aload_n hO 0 rfl dX9_count_208 ?_
        refine sn_getF hO fmX9_13 atM_0 dX9_count_209 ?_
        refine sn_iconst hO kc_5 dX9_count_212 ?_
        refine sn_iald hO atM_2 rfl dX9_count_213 ?_
        subst hQq
        exact sn_iret hO rfl dX9_count_214
      · refine sn_aload_n hO 0 rfl dX9_count_215 ?_
        refine sn_getF hO fmX9_13 atM_0 dX9_count_216 ?_
        refine sn_bipush hO kb_6 dX9_count_219 ?_
        refine sn_iald hO atM_2 rfl dX9_count_221 ?_
        subst hQq
        exact sn_iret hO rfl dX9_count_222
    · refine sn_iconst hO kc_m1 dX9_count_223 ?_
      subst hQq
      exact sn_iret hO rfl dX9_count_224
  · intro k4 hk4
    refine sn_sub [3, 4, 2, 1, 0] rfl ?_
    refine sn_lp3_walk (Gd := fun (i5 : Int32) (i6 : Int32) (i7 : Int32) => sn_G LoM w rmX9_count Qq sn_noE C 0 0 12 [(0, .ref (w.2.2.1 0)), (1, .int p1), (2, .int i5), (3, .int i6), (4, .int i7)] [] S1) ?_ _ _ _
    intro rc8 hrc8 i5 i6 i7
    refine sn_iload hO 4 rfl dX9_count_12 ?_
    refine sn_bipush hO kb_96 dX9_count_14 ?_
    refine sn_icmp_ge hO 52 (by decide) dX9_count_16 ?_ ?_
    · refine sn_sub [0, 1, 2, 3] rfl ?_
      exact hk4 _ _
    · refine sn_iload_n hO 2 rfl dX9_count_19 ?_
      refine sn_aload_n hO 0 rfl dX9_count_20 ?_
      refine sn_getF hO fmX9_13 atM_0 dX9_count_21 ?_
      refine sn_sipush hO ks_176 dX9_count_24 ?_
      refine sn_iload hO 4 rfl dX9_count_27 ?_
      refine sn_iadd hO dX9_count_29 ?_
      refine sn_iald hO atM_2 rfl dX9_count_30 ?_
      refine sn_iadd hO dX9_count_31 ?_
      refine sn_nmI (fun x9 => ?_)
      refine sn_istore_n hO (lv' := [(2, .int x9), (0, .ref (w.2.2.1 0)), (1, .int p1), (3, .int i6), (4, .int i7)]) (by decide) rfl dX9_count_32 ?_
      refine sn_iload_n hO 3 rfl dX9_count_33 ?_
      refine sn_aload_n hO 1 rfl dX9_count_34 ?_
      refine sn_getF hO fmX9_13 atM_0 dX9_count_35 ?_
      refine sn_bipush hO kb_80 dX9_count_38 ?_
      refine sn_iload hO 4 rfl dX9_count_40 ?_
      refine sn_iadd hO dX9_count_42 ?_
      refine sn_iald hO atM_2 rfl dX9_count_43 ?_
      refine sn_iadd hO dX9_count_44 ?_
      refine sn_nmI (fun x10 => ?_)
      refine sn_istore_n hO (lv' := [(3, .int x10), (2, .int x9), (0, .ref (w.2.2.1 0)), (1, .int p1), (4, .int i7)]) (by decide) rfl dX9_count_45 ?_
      refine sn_iinc hO (lv' := [(4, .int (i7 + 1)), (3, .int x10), (2, .int x9), (0, .ref (w.2.2.1 0)), (1, .int p1)]) 4 rfl ki_1 (by decide) rfl dX9_count_46 ?_
      refine sn_goto hO 12 (by decide) dX9_count_49 ?_
      refine sn_sub [3, 4, 2, 1, 0] rfl ?_
      exact hrc8 _ _ _
theorem ctX9_count {w : sn_W} {p1 : Int32} {S : sn_S} {Q : Int32 → sn_S → Prop} (h : wpX9_count p1 S Q) : sn_Ct LoM w yX9_count (ws_ yX9_count cX9_count 5 (some .int)) rmX9_count [.ref (w.2.2.1 0), .int p1] S (sn_qI Q) sn_noE := sn_Ct_of (LoM_X w) (by decide) (Nat.le_of_ble_eq_true rfl) RX9 rfl (fun C hO => wkX9_count hO p1 S Q h)
def rmX9_status : Room := { frames := 0, cells := 0, slots := 0, locals := 0 }
/-- SnailPostModel.status()I -/
def wpX9_status (S : sn_S) (Q : Int32 → sn_S → Prop) : Prop :=
  sn_lt (sn_pI S 0 0 0) (fun S1 => Q (S1.1 0 1) S1)
theorem wkX9_status {w : sn_W} {C : sn_C} (hO : sn_Ok LoM w C RX9 cX9_status 1 (some .int) [] "status") (S : sn_S) (Q : Int32 → sn_S → Prop) : wpX9_status S Q → sn_G LoM w rmX9_status (sn_qI Q) sn_noE C 0 0 0 [(0, .ref (w.2.2.1 0))] [] S := by
  unfold wpX9_status
  generalize hQq : (sn_qI Q) = Qq
  refine sn_aload_n hO 0 rfl dX9_status_0 ?_
  refine sn_iconst hO kc_0 dX9_status_1 ?_
  refine sn_putI hO fmX9_150 atM_0 rfl rfl dX9_status_2 ?_
  refine sn_nmS (fun S1 => ?_)
  refine sn_aload_n hO 0 rfl dX9_status_5 ?_
  refine sn_getI hO fmX9_153 atM_0 dX9_status_6 ?_
  subst hQq
  exact sn_iret hO rfl dX9_status_9
theorem ctX9_status {w : sn_W} {S : sn_S} {Q : Int32 → sn_S → Prop} (h : wpX9_status S Q) : sn_Ct LoM w yX9_status (ws_ yX9_status cX9_status 1 (some .int)) rmX9_status [.ref (w.2.2.1 0)] S (sn_qI Q) sn_noE := sn_Ct_of (LoM_X w) (by decide) (Nat.le_of_ble_eq_true rfl) RX9 rfl (fun C hO => wkX9_status hO S Q h)
