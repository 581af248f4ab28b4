/-! walks, printed by gen/decomp.py -/
set_option maxRecDepth 100000
def fX0_fill_L2 (j0 : Nat) (k0 : Nat) (n0 : Nat) (a1 : Int32) (rec1 : (Int32 × am_M) → Option (Int32 × am_M)) (s2 : (Int32 × am_M)) : Option (Int32 × am_M) :=
(if (Int32.ofNat n0) ≤ s2.1 then
some (s2.1, s2.2)
 else
(Option.bind (am_wr s2.2 j0 k0 n0 s2.1 a1) fun M3 =>
rec1 ((s2.1 + 1), M3)))
def fX0_fill (M : am_M) (j0 : Nat) (k0 : Nat) (n0 : Nat) (a1 : Int32) : Option am_M :=
(Option.bind (am_it (fX0_fill_L2 j0 k0 n0 a1) am_fuel ((0 : Int32), M)) fun (s5 : (Int32 × am_M)) =>
some s5.2)
set_option maxHeartbeats 4000000 in
theorem kX0_fill (G : am_G) (M : am_M) (j0 : Nat) (k0 : Nat) (n0 : Nat) (a1 : Int32) (h0a : am_kd (am_cls j0) k0 = (1, n0)): am_C G 1 mX0_fill [am_r j0 (k0 + 1), am_i a1] M (fun r => (none, r)) (fX0_fill M j0 k0 n0 a1) := by
  refine am_met (nL := 3) (ls0 := [some (am_r j0 (k0 + 1)), some (am_i a1), none]) (by decide) rfl (Nat.le_of_ble_eq_true rfl) (And.intro rfl (And.intro rfl trivial)) ?_
  unfold fX0_fill
  refine am_iconst dX0_fill_0 ic_0 ?_
  refine am_istore_n [some (am_r j0 (k0 + 1)), some (am_i a1), some (am_i (0 : Int32))] dX0_fill_1 rfl rfl (Nat.le_of_ble_eq_true rfl) rfl ?_
  refine am_join (β := (Int32 × am_M)) 18 (fun s5 => [none, none, none]) (fun _ => []) (fun s5 => s5.2) (fun s5 => ?_) (fun hx4 => ?_)
  · exact am_vret dX0_fill_18 rfl rfl
  refine am_loop (σ := (Int32 × am_M)) (ls' := fun s1 => [some (am_r j0 (k0 + 1)), some (am_i a1), some (am_i s1.1)]) (st' := fun _ => []) (M' := fun s1 => s1.2) (fun rec2 hr3 s1 => ?_) _ _
  unfold fX0_fill_L2
  refine am_iload_n dX0_fill_2 rfl rfl ?_
  refine am_aload_n dX0_fill_3 rfl rfl ?_
  refine am_alen h0a (by decide) rfl dX0_fill_4 ?_
  refine am_icmp_geB (tgt := 18) dX0_fill_5 rfl ?_ ?_
  · exact am_dr (hx4 (s1.1, s1.2)) trivial
  · refine am_aload_n dX0_fill_8 rfl rfl ?_
    refine am_iload_n dX0_fill_9 rfl rfl ?_
    refine am_iload_n dX0_fill_10 rfl rfl ?_
    refine am_as ?_
    refine am_iast h0a dX0_fill_11 (fun M6 => ?_)
    refine am_iinc [some (am_r j0 (k0 + 1)), some (am_i a1), some (am_i (s1.1 + 1))] dX0_fill_12 rfl ic_1 rfl (Nat.le_of_ble_eq_true rfl) rfl ?_
    refine am_goto (tgt := 2) dX0_fill_15 rfl ?_
    exact hr3 ((s1.1 + 1), M6)
def fX0_isIn (a0 : Int64) (a1 : Int64) (a2 : Int64) : Int32 :=
(if (lg_cmp a0 a1) < 0 then
(0 : Int32)
 else
(if 0 < (lg_cmp a0 a2) then
(0 : Int32)
 else
(1 : Int32)))
theorem bX0_isIn (a0 : Int64) (a1 : Int64) (a2 : Int64) : fX0_isIn a0 a1 a2 = 0 ∨ fX0_isIn a0 a1 a2 = 1 := by
  unfold fX0_isIn
  repeat' split
  all_goals first | exact Or.inl rfl | exact Or.inr rfl
set_option maxHeartbeats 4000000 in
theorem kX0_isIn (G : am_G) (M : am_M) (a0 : Int64) (a1 : Int64) (a2 : Int64) : am_C G 1 mX0_isIn [am_l a0, am_l a1, am_l a2] M (fun r => (some (am_i r), M)) (some (fX0_isIn a0 a1 a2)) := by
  refine am_met (nL := 6) (ls0 := [some (am_l a0), none, some (am_l a1), none, some (am_l a2), none]) (by decide) rfl (Nat.le_of_ble_eq_true rfl) (And.intro rfl (And.intro rfl (And.intro rfl trivial))) ?_
  unfold fX0_isIn
  refine am_lload_n dX0_isIn_0 rfl rfl ?_
  refine am_lload_n dX0_isIn_1 rfl rfl ?_
  refine am_lcmp dX0_isIn_2 ?_
  refine am_if_ltS (tgt := 17) dX0_isIn_3 rfl ?_ ?_
  · refine am_iconst dX0_isIn_17 ic_0 ?_
    exact am_zret (by decide) dX0_isIn_18 rfl rfl
  · refine am_lload_n dX0_isIn_6 rfl rfl ?_
    refine am_lload dX0_isIn_7 rfl ?_
    refine am_lcmp dX0_isIn_9 ?_
    refine am_if_gtS (tgt := 17) dX0_isIn_10 rfl ?_ ?_
    · refine am_iconst dX0_isIn_17 ic_0 ?_
      exact am_zret (by decide) dX0_isIn_18 rfl rfl
    · refine am_iconst dX0_isIn_13 ic_1 ?_
      refine am_goto (tgt := 18) dX0_isIn_14 rfl ?_
      exact am_zret (by decide) dX0_isIn_18 rfl rfl
def fX0_isGallery (a0 : Int32) : Int32 :=
(fX0_isIn ((a0).toInt64) (0 : Int64) (9 : Int64))
theorem bX0_isGallery (a0 : Int32) : fX0_isGallery a0 = 0 ∨ fX0_isGallery a0 = 1 := by
  unfold fX0_isGallery
  exact bX0_isIn _ _ _ 
set_option maxHeartbeats 4000000 in
theorem kX0_isGallery (G : am_G) (M : am_M) (a0 : Int32) : am_C G 2 mX0_isGallery [am_i a0] M (fun r => (some (am_i r), M)) (some (fX0_isGallery a0)) := by
  refine am_met (nL := 1) (ls0 := [some (am_i a0)]) (by decide) rfl (Nat.le_of_ble_eq_true rfl) (And.intro rfl trivial) ?_
  unfold fX0_isGallery
  refine am_iload_n dX0_isGallery_0 rfl rfl ?_
  refine am_i2l dX0_isGallery_1 ?_
  refine am_lconst (v := 0) dX0_isGallery_2 rfl ?_
  refine am_ldc2 dX0_isGallery_3 q207 ?_
  refine am_cST lc_X0_3 (kX0_isIn G M ((a0).toInt64) (0 : Int64) (9 : Int64)) rfl rfl rfl rfl rfl dX0_isGallery_6 ?_
  exact am_zret (bX0_isIn _ _ _ ) dX0_isGallery_9 rfl rfl
def fX0_with (a0 : Int32) (a1 : Int32) (a2 : Int32) : Int32 :=
(if a2 = 0 then
(a0 &&& (((1 : Int32) <<< (a1 &&& 31)) ^^^ (-1 : Int32)))
 else
(a0 ||| ((1 : Int32) <<< (a1 &&& 31))))
set_option maxHeartbeats 4000000 in
theorem kX0_with (G : am_G) (M : am_M) (a0 : Int32) (a1 : Int32) (a2 : Int32) : am_C G 1 mX0_with [am_i a0, am_i a1, am_i a2] M (fun r => (some (am_i r), M)) (some (fX0_with a0 a1 a2)) := by
  refine am_met (nL := 3) (ls0 := [some (am_i a0), some (am_i a1), some (am_i a2)]) (by decide) rfl (Nat.le_of_ble_eq_true rfl) (And.intro rfl (And.intro rfl (And.intro rfl trivial))) ?_
  unfold fX0_with
  refine am_iload_n dX0_with_0 rfl rfl ?_
  refine am_if_eqS (tgt := 12) dX0_with_1 rfl ?_ ?_
  · refine am_iload_n dX0_with_12 rfl rfl ?_
    refine am_iconst dX0_with_13 ic_1 ?_
    refine am_iload_n dX0_with_14 rfl rfl ?_
    refine am_ishl dX0_with_15 ?_
    refine am_iconst dX0_with_16 ic_m1 ?_
    refine am_ixor dX0_with_17 ?_
    refine am_iand dX0_with_18 ?_
    exact am_iret dX0_with_19 rfl rfl
  · refine am_iload_n dX0_with_4 rfl rfl ?_
    refine am_iconst dX0_with_5 ic_1 ?_
    refine am_iload_n dX0_with_6 rfl rfl ?_
    refine am_ishl dX0_with_7 ?_
    refine am_ior dX0_with_8 ?_
    refine am_goto (tgt := 19) dX0_with_9 rfl ?_
    exact am_iret dX0_with_19 rfl rfl
def fJ0_bitCount (a0 : Int32) : Option Int32 :=
(Option.bind (some (a0 - ((jv_ushr a0 (1 : Int32)) &&& (1431655765 : Int32)))) fun v1 =>
(Option.bind (some ((v1 &&& (858993459 : Int32)) + ((jv_ushr v1 (2 : Int32)) &&& (858993459 : Int32)))) fun v2 =>
(Option.bind (some ((v2 + (jv_ushr v2 (4 : Int32))) &&& (252645135 : Int32))) fun v3 =>
(Option.bind (some ((v3 + (jv_ushr v3 (8 : Int32))) + (jv_ushr (v3 + (jv_ushr v3 (8 : Int32))) (16 : Int32)))) fun v4 =>
some (v4 &&& (63 : Int32))))))
set_option maxHeartbeats 4000000 in
theorem kJ0_bitCount (G : am_G) (M : am_M) (a0 : Int32) : am_C G 1 mJ0_bitCount [am_i a0] M (fun r => (some (am_i r), M)) (fJ0_bitCount a0) := by
  refine am_met (nL := 1) (ls0 := [some (am_i a0)]) (by decide) rfl (Nat.le_of_ble_eq_true rfl) (And.intro rfl trivial) ?_
  unfold fJ0_bitCount
  refine am_iload_n dJ0_bitCount_0 rfl rfl ?_
  refine am_iload_n dJ0_bitCount_1 rfl rfl ?_
  refine am_iconst dJ0_bitCount_2 ic_1 ?_
  refine am_iushr dJ0_bitCount_3 ?_
  refine am_ldcw dJ0_bitCount_4 q217 ?_
  refine am_iand dJ0_bitCount_7 ?_
  refine am_isub dJ0_bitCount_8 ?_
  refine am_name (fun v1 => ?_)
  refine am_istore_n [some (am_i v1)] dJ0_bitCount_9 rfl rfl (Nat.le_of_ble_eq_true rfl) rfl ?_
  refine am_iload_n dJ0_bitCount_10 rfl rfl ?_
  refine am_ldcw dJ0_bitCount_11 q218 ?_
  refine am_iand dJ0_bitCount_14 ?_
  refine am_iload_n dJ0_bitCount_15 rfl rfl ?_
  refine am_iconst dJ0_bitCount_16 ic_2 ?_
  refine am_iushr dJ0_bitCount_17 ?_
  refine am_ldcw dJ0_bitCount_18 q218 ?_
  refine am_iand dJ0_bitCount_21 ?_
  refine am_iadd dJ0_bitCount_22 ?_
  refine am_name (fun v2 => ?_)
  refine am_istore_n [some (am_i v2)] dJ0_bitCount_23 rfl rfl (Nat.le_of_ble_eq_true rfl) rfl ?_
  refine am_iload_n dJ0_bitCount_24 rfl rfl ?_
  refine am_iload_n dJ0_bitCount_25 rfl rfl ?_
  refine am_iconst dJ0_bitCount_26 ic_4 ?_
  refine am_iushr dJ0_bitCount_27 ?_
  refine am_iadd dJ0_bitCount_28 ?_
  refine am_ldcw dJ0_bitCount_29 q219 ?_
  refine am_iand dJ0_bitCount_32 ?_
  refine am_name (fun v3 => ?_)
  refine am_istore_n [some (am_i v3)] dJ0_bitCount_33 rfl rfl (Nat.le_of_ble_eq_true rfl) rfl ?_
  refine am_iload_n dJ0_bitCount_34 rfl rfl ?_
  refine am_iload_n dJ0_bitCount_35 rfl rfl ?_
  refine am_bipush dJ0_bitCount_36 bp_8 ?_
  refine am_iushr dJ0_bitCount_38 ?_
  refine am_iadd dJ0_bitCount_39 ?_
  refine am_istore_n [some (am_i (v3 + (jv_ushr v3 (8 : Int32))))] dJ0_bitCount_40 rfl rfl (Nat.le_of_ble_eq_true rfl) rfl ?_
  refine am_iload_n dJ0_bitCount_41 rfl rfl ?_
  refine am_iload_n dJ0_bitCount_42 rfl rfl ?_
  refine am_bipush dJ0_bitCount_43 bp_16 ?_
  refine am_iushr dJ0_bitCount_45 ?_
  refine am_iadd dJ0_bitCount_46 ?_
  refine am_name (fun v4 => ?_)
  refine am_istore_n [some (am_i v4)] dJ0_bitCount_47 rfl rfl (Nat.le_of_ble_eq_true rfl) rfl ?_
  refine am_iload_n dJ0_bitCount_48 rfl rfl ?_
  refine am_bipush dJ0_bitCount_49 bp_63 ?_
  refine am_iand dJ0_bitCount_51 ?_
  exact am_iret dJ0_bitCount_52 rfl rfl
def fX0_passage_L73 (M1 : am_M) (rec2 : (Int32 × Int32) → Option (Int32 × Int32)) (s3 : (Int32 × Int32)) : Option (Int32 × Int32) :=
(if (10 : Int32) ≤ s3.2 then
some (s3.1, s3.2)
 else
(Option.bind (am_rd (M1 2 0) 10 s3.2) fun v4 =>
(Option.bind (fJ0_bitCount v4) fun v5 =>
rec2 ((s3.1 + v5), (s3.2 + 1)))))
def fX0_passage (M : am_M) (a1 : Int32) (a2 : Int32) (a3 : Int32) : Option (Int32 × am_M) :=
(if (fX0_isGallery a1) = 0 then
some ((-1 : Int32), M)
 else
(if (fX0_isGallery a2) = 0 then
some ((-1 : Int32), M)
 else
(if a1 = a2 then
some ((-1 : Int32), M)
 else
(Option.bind (am_rd (M 2 0) 10 a1) fun v1 =>
(Option.bind (am_wr M 2 0 10 a1 (fX0_with v1 a2 a3)) fun M2 =>
(Option.bind (am_rd (M2 2 0) 10 a2) fun v3 =>
(Option.bind (am_wr M2 2 0 10 a2 (fX0_with v3 a1 a3)) fun M4 =>
(Option.bind (am_it (fX0_passage_L73 M4) am_fuel ((0 : Int32), (0 : Int32))) fun (s9 : (Int32 × Int32)) =>
some ((s9.1 / (2 : Int32)), M4)))))))))
set_option maxHeartbeats 4000000 in
theorem kX0_passage (G : am_G) (M : am_M) (a1 : Int32) (a2 : Int32) (a3 : Int32) : am_C G 3 mX0_passage [am_r 0 0, am_i a1, am_i a2, am_i a3] M (fun r => (some (am_i r.1), r.2)) (fX0_passage M a1 a2 a3) := by
  refine am_met (nL := 6) (ls0 := [some (am_r 0 0), some (am_i a1), some (am_i a2), some (am_i a3), none, none]) (by decide) rfl (Nat.le_of_ble_eq_true rfl) (And.intro rfl (And.intro rfl (And.intro rfl (And.intro rfl trivial)))) ?_
  unfold fX0_passage
  refine am_iload_n dX0_passage_0 rfl rfl ?_
  refine am_cST lc_X0_85 (kX0_isGallery G M a1) rfl rfl rfl rfl rfl dX0_passage_1 ?_
  refine am_if_eq (tgt := 19) dX0_passage_4 rfl ?_ ?_
  · refine am_iconst dX0_passage_19 ic_m1 ?_
    exact am_iret dX0_passage_20 rfl rfl
  · refine am_iload_n dX0_passage_7 rfl rfl ?_
    refine am_cST lc_X0_85 (kX0_isGallery G M a2) rfl rfl rfl rfl rfl dX0_passage_8 ?_
    refine am_if_eq (tgt := 19) dX0_passage_11 rfl ?_ ?_
    · refine am_iconst dX0_passage_19 ic_m1 ?_
      exact am_iret dX0_passage_20 rfl rfl
    · refine am_iload_n dX0_passage_14 rfl rfl ?_
      refine am_iload_n dX0_passage_15 rfl rfl ?_
      refine am_icmp_ne (tgt := 21) dX0_passage_16 rfl ?_ ?_
      · refine am_iconst dX0_passage_19 ic_m1 ?_
        exact am_iret dX0_passage_20 rfl rfl
      · refine am_aload_n dX0_passage_21 rfl rfl ?_
        refine am_getO (o2 := 2) lf_X0_38 rfl (by decide) dX0_passage_22 ?_
        refine am_getA lf_X0_88 rfl rfl dX0_passage_25 ?_
        refine am_iload_n dX0_passage_28 rfl rfl ?_
        refine am_aload_n dX0_passage_29 rfl rfl ?_
        refine am_getO (o2 := 2) lf_X0_38 rfl (by decide) dX0_passage_30 ?_
        refine am_getA lf_X0_88 rfl rfl dX0_passage_33 ?_
        refine am_iload_n dX0_passage_36 rfl rfl ?_
        refine am_iald (β := Unit) rfl dX0_passage_37 (fun v1 => ?_)
        refine am_iload_n dX0_passage_38 rfl rfl ?_
        refine am_iload_n dX0_passage_39 rfl rfl ?_
        refine am_cST lc_X0_91 (kX0_with G M v1 a2 a3) rfl rfl rfl rfl rfl dX0_passage_40 ?_
        refine am_iast rfl dX0_passage_43 (fun M2 => ?_)
        refine am_aload_n dX0_passage_44 rfl rfl ?_
        refine am_getO (o2 := 2) lf_X0_38 rfl (by decide) dX0_passage_45 ?_
        refine am_getA lf_X0_88 rfl rfl dX0_passage_48 ?_
        refine am_iload_n dX0_passage_51 rfl rfl ?_
        refine am_aload_n dX0_passage_52 rfl rfl ?_
        refine am_getO (o2 := 2) lf_X0_38 rfl (by decide) dX0_passage_53 ?_
        refine am_getA lf_X0_88 rfl rfl dX0_passage_56 ?_
        refine am_iload_n dX0_passage_59 rfl rfl ?_
        refine am_iald (β := Unit) rfl dX0_passage_60 (fun v3 => ?_)
        refine am_iload_n dX0_passage_61 rfl rfl ?_
        refine am_iload_n dX0_passage_62 rfl rfl ?_
        refine am_cST lc_X0_91 (kX0_with G M2 v3 a1 a3) rfl rfl rfl rfl rfl dX0_passage_63 ?_
        refine am_iast rfl dX0_passage_66 (fun M4 => ?_)
        refine am_iconst dX0_passage_67 ic_0 ?_
        refine am_istore [some (am_r 0 0), some (am_i a1), some (am_i a2), some (am_i a3), some (am_i (0 : Int32)), none] dX0_passage_68 rfl (Nat.le_of_ble_eq_true rfl) rfl ?_
        refine am_iconst dX0_passage_70 ic_0 ?_
        refine am_istore [some (am_r 0 0), some (am_i a1), some (am_i a2), some (am_i a3), some (am_i (0 : Int32)), some (am_i (0 : Int32))] dX0_passage_71 rfl (Nat.le_of_ble_eq_true rfl) rfl ?_
        refine am_join (β := (Int32 × Int32)) 104 (fun s9 => [none, none, none, none, some (am_i s9.1), none]) (fun _ => []) (fun s9 => M4) (fun s9 => ?_) (fun hx8 => ?_)
        · refine am_iload dX0_passage_104 rfl ?_
          refine am_iconst dX0_passage_106 ic_2 ?_
          refine am_idiv dX0_passage_107 (by decide) ?_
          exact am_iret dX0_passage_108 rfl rfl
        refine am_drop (ls' := [some (am_r 0 0), none, none, none, some (am_i (0 : Int32)), some (am_i (0 : Int32))]) (And.intro rfl (And.intro rfl (And.intro rfl trivial))) ?_
        refine am_loop (σ := (Int32 × Int32)) (ls' := fun s5 => [some (am_r 0 0), none, none, none, some (am_i s5.1), some (am_i s5.2)]) (st' := fun _ => []) (M' := fun s5 => M4) (fun rec6 hr7 s5 => ?_) _ _
        unfold fX0_passage_L73
        refine am_iload dX0_passage_73 rfl ?_
        refine am_bipush dX0_passage_75 bp_10 ?_
        refine am_icmp_geB (tgt := 104) dX0_passage_77 rfl ?_ ?_
        · exact am_dr (hx8 (s5.1, s5.2)) (And.intro rfl trivial)
        · refine am_iload dX0_passage_80 rfl ?_
          refine am_aload_n dX0_passage_82 rfl rfl ?_
          refine am_getO (o2 := 2) lf_X0_38 rfl (by decide) dX0_passage_83 ?_
          refine am_getA lf_X0_88 rfl rfl dX0_passage_86 ?_
          refine am_iload dX0_passage_89 rfl ?_
          refine am_as ?_
          refine am_iald (β := Unit) rfl dX0_passage_91 (fun v10 => ?_)
          refine am_as ?_
          refine am_cSI lc_X0_95 (kJ0_bitCount G M4 v10) rfl rfl rfl rfl rfl dX0_passage_92 (fun v11 => ?_)
          refine am_iadd dX0_passage_95 ?_
          refine am_istore [some (am_r 0 0), none, none, none, some (am_i (s5.1 + v11)), some (am_i s5.2)] dX0_passage_96 rfl (Nat.le_of_ble_eq_true rfl) rfl ?_
          refine am_iinc [some (am_r 0 0), none, none, none, some (am_i (s5.1 + v11)), some (am_i (s5.2 + 1))] dX0_passage_98 rfl ic_1 rfl (Nat.le_of_ble_eq_true rfl) rfl ?_
          refine am_goto (tgt := 73) dX0_passage_101 rfl ?_
          exact hr7 ((s5.1 + v11), (s5.2 + 1))
def fX0_gallery (M : am_M) (a1 : Int32) (a2 : Int32) (a3 : Int32) : Option (Int32 × am_M) :=
(if (fX0_isGallery a1) = 0 then
some ((-1 : Int32), M)
 else
(if (fX0_isGallery a2) = 0 then
some ((-1 : Int32), M)
 else
(Option.bind (am_rd (M 2 1) 10 a1) fun v1 =>
(Option.bind (am_wr M 2 1 10 a1 a2) fun M2 =>
some (v1, (am_put M2 2 3 (fX0_with (M2 2 3 0) a1 a3)))))))
set_option maxHeartbeats 4000000 in
theorem kX0_gallery (G : am_G) (M : am_M) (a1 : Int32) (a2 : Int32) (a3 : Int32) : am_C G 3 mX0_gallery [am_r 0 0, am_i a1, am_i a2, am_i a3] M (fun r => (some (am_i r.1), r.2)) (fX0_gallery M a1 a2 a3) := by
  refine am_met (nL := 5) (ls0 := [some (am_r 0 0), some (am_i a1), some (am_i a2), some (am_i a3), none]) (by decide) rfl (Nat.le_of_ble_eq_true rfl) (And.intro rfl (And.intro rfl (And.intro rfl (And.intro rfl trivial)))) ?_
  unfold fX0_gallery
  refine am_iload_n dX0_gallery_0 rfl rfl ?_
  refine am_cST lc_X0_85 (kX0_isGallery G M a1) rfl rfl rfl rfl rfl dX0_gallery_1 ?_
  refine am_if_eq (tgt := 14) dX0_gallery_4 rfl ?_ ?_
  · refine am_iconst dX0_gallery_14 ic_m1 ?_
    exact am_iret dX0_gallery_15 rfl rfl
  · refine am_iload_n dX0_gallery_7 rfl rfl ?_
    refine am_cST lc_X0_85 (kX0_isGallery G M a2) rfl rfl rfl rfl rfl dX0_gallery_8 ?_
    refine am_if_ne (tgt := 16) dX0_gallery_11 rfl ?_ ?_
    · refine am_iconst dX0_gallery_14 ic_m1 ?_
      exact am_iret dX0_gallery_15 rfl rfl
    · refine am_aload_n dX0_gallery_16 rfl rfl ?_
      refine am_getO (o2 := 2) lf_X0_38 rfl (by decide) dX0_gallery_17 ?_
      refine am_getA lf_X0_100 rfl rfl dX0_gallery_20 ?_
      refine am_iload_n dX0_gallery_23 rfl rfl ?_
      refine am_iald (β := Unit) rfl dX0_gallery_24 (fun v1 => ?_)
      refine am_istore [some (am_r 0 0), some (am_i a1), some (am_i a2), some (am_i a3), some (am_i v1)] dX0_gallery_25 rfl (Nat.le_of_ble_eq_true rfl) rfl ?_
      refine am_aload_n dX0_gallery_27 rfl rfl ?_
      refine am_getO (o2 := 2) lf_X0_38 rfl (by decide) dX0_gallery_28 ?_
      refine am_getA lf_X0_100 rfl rfl dX0_gallery_31 ?_
      refine am_iload_n dX0_gallery_34 rfl rfl ?_
      refine am_iload_n dX0_gallery_35 rfl rfl ?_
      refine am_iast rfl dX0_gallery_36 (fun M2 => ?_)
      refine am_aload_n dX0_gallery_37 rfl rfl ?_
      refine am_getO (o2 := 2) lf_X0_38 rfl (by decide) dX0_gallery_38 ?_
      refine am_aload_n dX0_gallery_41 rfl rfl ?_
      refine am_getO (o2 := 2) lf_X0_38 rfl (by decide) dX0_gallery_42 ?_
      refine am_get lf_X0_103 rfl rfl dX0_gallery_45 ?_
      refine am_iload_n dX0_gallery_48 rfl rfl ?_
      refine am_iload_n dX0_gallery_49 rfl rfl ?_
      refine am_cST lc_X0_91 (kX0_with G M2 (M2 2 3 0) a1 a3) rfl rfl rfl rfl rfl dX0_gallery_50 ?_
      refine am_putf lf_X0_103 rfl rfl dX0_gallery_53 ?_
      refine am_iload dX0_gallery_56 rfl ?_
      exact am_iret dX0_gallery_58 rfl rfl
def fX0_isVoice (a0 : Int32) : Int32 :=
(fX0_isIn ((a0).toInt64) (0 : Int64) (7 : Int64))
theorem bX0_isVoice (a0 : Int32) : fX0_isVoice a0 = 0 ∨ fX0_isVoice a0 = 1 := by
  unfold fX0_isVoice
  exact bX0_isIn _ _ _ 
set_option maxHeartbeats 4000000 in
theorem kX0_isVoice (G : am_G) (M : am_M) (a0 : Int32) : am_C G 2 mX0_isVoice [am_i a0] M (fun r => (some (am_i r), M)) (some (fX0_isVoice a0)) := by
  refine am_met (nL := 1) (ls0 := [some (am_i a0)]) (by decide) rfl (Nat.le_of_ble_eq_true rfl) (And.intro rfl trivial) ?_
  unfold fX0_isVoice
  refine am_iload_n dX0_isVoice_0 rfl rfl ?_
  refine am_i2l dX0_isVoice_1 ?_
  refine am_lconst (v := 0) dX0_isVoice_2 rfl ?_
  refine am_ldc2 dX0_isVoice_3 q231 ?_
  refine am_cST lc_X0_3 (kX0_isIn G M ((a0).toInt64) (0 : Int64) (7 : Int64)) rfl rfl rfl rfl rfl dX0_isVoice_6 ?_
  exact am_zret (bX0_isIn _ _ _ ) dX0_isVoice_9 rfl rfl
def fX0_isNote (a0 : Int32) : Int32 :=
(fX0_isIn ((a0).toInt64) (0 : Int64) (23 : Int64))
theorem bX0_isNote (a0 : Int32) : fX0_isNote a0 = 0 ∨ fX0_isNote a0 = 1 := by
  unfold fX0_isNote
  exact bX0_isIn _ _ _ 
set_option maxHeartbeats 4000000 in
theorem kX0_isNote (G : am_G) (M : am_M) (a0 : Int32) : am_C G 2 mX0_isNote [am_i a0] M (fun r => (some (am_i r), M)) (some (fX0_isNote a0)) := by
  refine am_met (nL := 1) (ls0 := [some (am_i a0)]) (by decide) rfl (Nat.le_of_ble_eq_true rfl) (And.intro rfl trivial) ?_
  unfold fX0_isNote
  refine am_iload_n dX0_isNote_0 rfl rfl ?_
  refine am_i2l dX0_isNote_1 ?_
  refine am_lconst (v := 0) dX0_isNote_2 rfl ?_
  refine am_ldc2 dX0_isNote_3 q235 ?_
  refine am_cST lc_X0_3 (kX0_isIn G M ((a0).toInt64) (0 : Int64) (23 : Int64)) rfl rfl rfl rfl rfl dX0_isNote_6 ?_
  exact am_zret (bX0_isIn _ _ _ ) dX0_isNote_9 rfl rfl
def fX0_voice (M : am_M) (a1 : Int32) (a2 : Int32) (a3 : Int32) (a4 : Int32) (a5 : Int32) : Option (Int32 × am_M) :=
(if (fX0_isVoice a1) = 0 then
some ((-1 : Int32), M)
 else
(if (fX0_isGallery a5) = 0 then
some ((-1 : Int32), M)
 else
(if (fX0_isNote a2) = 0 then
some ((-2 : Int32), M)
 else
(if (fX0_isIn ((a3).toInt64) ((a2).toInt64) (23 : Int64)) = 0 then
some ((-2 : Int32), M)
 else
(if (fX0_isIn ((a4).toInt64) (0 : Int64) (99 : Int64)) = 0 then
some ((-2 : Int32), M)
 else
(Option.bind (am_wr (am_put M 2 5 (fX0_with (M 2 5 0) a1 (1 : Int32))) 2 6 8 a1 a2) fun M1 =>
(Option.bind (am_wr M1 2 7 8 a1 a3) fun M2 =>
(Option.bind (am_wr M2 2 8 8 a1 a4) fun M3 =>
(Option.bind (am_wr M3 2 9 8 a1 a4) fun M4 =>
(Option.bind (am_wr M4 2 10 8 a1 a5) fun M5 =>
(Option.bind (am_wr M5 2 11 8 a1 (-6 : Int32)) fun M6 =>
(Option.bind (fJ0_bitCount (M6 2 5 0)) fun v7 =>
some (v7, M6)))))))))))))
set_option maxHeartbeats 4000000 in
theorem kX0_voice (G : am_G) (M : am_M) (a1 : Int32) (a2 : Int32) (a3 : Int32) (a4 : Int32) (a5 : Int32) : am_C G 3 mX0_voice [am_r 0 0, am_i a1, am_i a2, am_i a3, am_i a4, am_i a5] M (fun r => (some (am_i r.1), r.2)) (fX0_voice M a1 a2 a3 a4 a5) := by
  refine am_met (nL := 6) (ls0 := [some (am_r 0 0), some (am_i a1), some (am_i a2), some (am_i a3), some (am_i a4), some (am_i a5)]) (by decide) rfl (Nat.le_of_ble_eq_true rfl) (And.intro rfl (And.intro rfl (And.intro rfl (And.intro rfl (And.intro rfl (And.intro rfl trivial)))))) ?_
  unfold fX0_voice
  refine am_iload_n dX0_voice_0 rfl rfl ?_
  refine am_cST lc_X0_78 (kX0_isVoice G M a1) rfl rfl rfl rfl rfl dX0_voice_1 ?_
  refine am_if_eq (tgt := 15) dX0_voice_4 rfl ?_ ?_
  · refine am_iconst dX0_voice_15 ic_m1 ?_
    exact am_iret dX0_voice_16 rfl rfl
  · refine am_iload dX0_voice_7 rfl ?_
    refine am_cST lc_X0_85 (kX0_isGallery G M a5) rfl rfl rfl rfl rfl dX0_voice_9 ?_
    refine am_if_ne (tgt := 17) dX0_voice_12 rfl ?_ ?_
    · refine am_iconst dX0_voice_15 ic_m1 ?_
      exact am_iret dX0_voice_16 rfl rfl
    · refine am_iload_n dX0_voice_17 rfl rfl ?_
      refine am_cST lc_X0_107 (kX0_isNote G M a2) rfl rfl rfl rfl rfl dX0_voice_18 ?_
      refine am_if_eq (tgt := 50) dX0_voice_21 rfl ?_ ?_
      · refine am_bipush dX0_voice_50 bp_m2 ?_
        exact am_iret dX0_voice_52 rfl rfl
      · refine am_iload_n dX0_voice_24 rfl rfl ?_
        refine am_i2l dX0_voice_25 ?_
        refine am_iload_n dX0_voice_26 rfl rfl ?_
        refine am_i2l dX0_voice_27 ?_
        refine am_ldc2 dX0_voice_28 q235 ?_
        refine am_cST lc_X0_3 (kX0_isIn G M ((a3).toInt64) ((a2).toInt64) (23 : Int64)) rfl rfl rfl rfl rfl dX0_voice_31 ?_
        refine am_if_eq (tgt := 50) dX0_voice_34 rfl ?_ ?_
        · refine am_bipush dX0_voice_50 bp_m2 ?_
          exact am_iret dX0_voice_52 rfl rfl
        · refine am_iload dX0_voice_37 rfl ?_
          refine am_i2l dX0_voice_39 ?_
          refine am_lconst (v := 0) dX0_voice_40 rfl ?_
          refine am_ldc2 dX0_voice_41 q236 ?_
          refine am_cST lc_X0_3 (kX0_isIn G M ((a4).toInt64) (0 : Int64) (99 : Int64)) rfl rfl rfl rfl rfl dX0_voice_44 ?_
          refine am_if_ne (tgt := 53) dX0_voice_47 rfl ?_ ?_
          · refine am_bipush dX0_voice_50 bp_m2 ?_
            exact am_iret dX0_voice_52 rfl rfl
          · refine am_aload_n dX0_voice_53 rfl rfl ?_
            refine am_getO (o2 := 2) lf_X0_38 rfl (by decide) dX0_voice_54 ?_
            refine am_aload_n dX0_voice_57 rfl rfl ?_
            refine am_getO (o2 := 2) lf_X0_38 rfl (by decide) dX0_voice_58 ?_
            refine am_get lf_X0_112 rfl rfl dX0_voice_61 ?_
            refine am_iload_n dX0_voice_64 rfl rfl ?_
            refine am_iconst dX0_voice_65 ic_1 ?_
            refine am_cST lc_X0_91 (kX0_with G M (M 2 5 0) a1 (1 : Int32)) rfl rfl rfl rfl rfl dX0_voice_66 ?_
            refine am_putf lf_X0_112 rfl rfl dX0_voice_69 ?_
            refine am_aload_n dX0_voice_72 rfl rfl ?_
            refine am_getO (o2 := 2) lf_X0_38 rfl (by decide) dX0_voice_73 ?_
            refine am_getA lf_X0_115 rfl rfl dX0_voice_76 ?_
            refine am_iload_n dX0_voice_79 rfl rfl ?_
            refine am_iload_n dX0_voice_80 rfl rfl ?_
            refine am_iast rfl dX0_voice_81 (fun M1 => ?_)
            refine am_aload_n dX0_voice_82 rfl rfl ?_
            refine am_getO (o2 := 2) lf_X0_38 rfl (by decide) dX0_voice_83 ?_
            refine am_getA lf_X0_118 rfl rfl dX0_voice_86 ?_
            refine am_iload_n dX0_voice_89 rfl rfl ?_
            refine am_iload_n dX0_voice_90 rfl rfl ?_
            refine am_iast rfl dX0_voice_91 (fun M2 => ?_)
            refine am_aload_n dX0_voice_92 rfl rfl ?_
            refine am_getO (o2 := 2) lf_X0_38 rfl (by decide) dX0_voice_93 ?_
            refine am_getA lf_X0_121 rfl rfl dX0_voice_96 ?_
            refine am_iload_n dX0_voice_99 rfl rfl ?_
            refine am_iload dX0_voice_100 rfl ?_
            refine am_iast rfl dX0_voice_102 (fun M3 => ?_)
            refine am_aload_n dX0_voice_103 rfl rfl ?_
            refine am_getO (o2 := 2) lf_X0_38 rfl (by decide) dX0_voice_104 ?_
            refine am_getA lf_X0_124 rfl rfl dX0_voice_107 ?_
            refine am_iload_n dX0_voice_110 rfl rfl ?_
            refine am_iload dX0_voice_111 rfl ?_
            refine am_iast rfl dX0_voice_113 (fun M4 => ?_)
            refine am_aload_n dX0_voice_114 rfl rfl ?_
            refine am_getO (o2 := 2) lf_X0_38 rfl (by decide) dX0_voice_115 ?_
            refine am_getA lf_X0_127 rfl rfl dX0_voice_118 ?_
            refine am_iload_n dX0_voice_121 rfl rfl ?_
            refine am_iload dX0_voice_122 rfl ?_
            refine am_iast rfl dX0_voice_124 (fun M5 => ?_)
            refine am_aload_n dX0_voice_125 rfl rfl ?_
            refine am_getO (o2 := 2) lf_X0_38 rfl (by decide) dX0_voice_126 ?_
            refine am_getA lf_X0_130 rfl rfl dX0_voice_129 ?_
            refine am_iload_n dX0_voice_132 rfl rfl ?_
            refine am_bipush dX0_voice_133 bp_m6 ?_
            refine am_iast rfl dX0_voice_135 (fun M6 => ?_)
            refine am_aload_n dX0_voice_136 rfl rfl ?_
            refine am_getO (o2 := 2) lf_X0_38 rfl (by decide) dX0_voice_137 ?_
            refine am_get lf_X0_112 rfl rfl dX0_voice_140 ?_
            refine am_cSI lc_X0_95 (kJ0_bitCount G M6 (M6 2 5 0)) rfl rfl rfl rfl rfl dX0_voice_143 (fun v7 => ?_)
            exact am_iret dX0_voice_146 rfl rfl
def fX0_holds (a0 : Int32) (a1 : Int32) : Int32 :=
(if ((a0 >>> (a1 &&& 31)) &&& (1 : Int32)) = (1 : Int32) then
(1 : Int32)
 else
(0 : Int32))
theorem bX0_holds (a0 : Int32) (a1 : Int32) : fX0_holds a0 a1 = 0 ∨ fX0_holds a0 a1 = 1 := by
  unfold fX0_holds
  repeat' split
  all_goals first | exact Or.inl rfl | exact Or.inr rfl
set_option maxHeartbeats 4000000 in
theorem kX0_holds (G : am_G) (M : am_M) (a0 : Int32) (a1 : Int32) : am_C G 1 mX0_holds [am_i a0, am_i a1] M (fun r => (some (am_i r), M)) (some (fX0_holds a0 a1)) := by
  refine am_met (nL := 2) (ls0 := [some (am_i a0), some (am_i a1)]) (by decide) rfl (Nat.le_of_ble_eq_true rfl) (And.intro rfl (And.intro rfl trivial)) ?_
  unfold fX0_holds
  refine am_iload_n dX0_holds_0 rfl rfl ?_
  refine am_iload_n dX0_holds_1 rfl rfl ?_
  refine am_ishr dX0_holds_2 ?_
  refine am_iconst dX0_holds_3 ic_1 ?_
  refine am_iand dX0_holds_4 ?_
  refine am_iconst dX0_holds_5 ic_1 ?_
  refine am_icmp_neS (tgt := 13) dX0_holds_6 rfl ?_ ?_
  · refine am_iconst dX0_holds_9 ic_1 ?_
    refine am_goto (tgt := 14) dX0_holds_10 rfl ?_
    exact am_zret (by decide) dX0_holds_14 rfl rfl
  · refine am_iconst dX0_holds_13 ic_0 ?_
    exact am_zret (by decide) dX0_holds_14 rfl rfl
def fX1_isThere (m : Nat → Nat → Int32) (a1 : Int32) : Int32 :=
(fX0_holds (m 5 0) a1)
theorem bX1_isThere (m : Nat → Nat → Int32) (a1 : Int32) : fX1_isThere m a1 = 0 ∨ fX1_isThere m a1 = 1 := by
  unfold fX1_isThere
  exact bX0_holds _ _ 
set_option maxHeartbeats 4000000 in
theorem kX1_isThere (G : am_G) (M : am_M) (j : Nat) (a1 : Int32) : am_C G 2 mX1_isThere [am_r (j + 2) 0, am_i a1] M (fun r => (some (am_i r), M)) (some (fX1_isThere (M (j + 2)) a1)) := by
  refine am_met (nL := 2) (ls0 := [some (am_r (j + 2) 0), some (am_i a1)]) (by decide) rfl (Nat.le_of_ble_eq_true rfl) (And.intro rfl (And.intro rfl trivial)) ?_
  unfold fX1_isThere
  refine am_aload_n dX1_isThere_0 rfl rfl ?_
  refine am_get lf_X1_63 rfl rfl dX1_isThere_1 ?_
  refine am_iload_n dX1_isThere_4 rfl rfl ?_
  refine am_cMT rfl lc_X1_72 (kX0_holds G M ((M (j + 2)) 5 0) a1) rfl rfl rfl rfl rfl dX1_isThere_5 ?_
  exact am_zret (bX0_holds _ _ ) dX1_isThere_8 rfl rfl
def fX0_isHere (M : am_M) (a1 : Int32) : Int32 :=
(if (fX0_isVoice a1) = 0 then
(0 : Int32)
 else
(if (fX1_isThere (M 2) a1) = 0 then
(0 : Int32)
 else
(1 : Int32)))
theorem bX0_isHere (M : am_M) (a1 : Int32) : fX0_isHere M a1 = 0 ∨ fX0_isHere M a1 = 1 := by
  unfold fX0_isHere
  repeat' split
  all_goals first | exact Or.inl rfl | exact Or.inr rfl
set_option maxHeartbeats 4000000 in
theorem kX0_isHere (G : am_G) (M : am_M) (a1 : Int32) : am_C G 3 mX0_isHere [am_r 0 0, am_i a1] M (fun r => (some (am_i r), M)) (some (fX0_isHere M a1)) := by
  refine am_met (nL := 2) (ls0 := [some (am_r 0 0), some (am_i a1)]) (by decide) rfl (Nat.le_of_ble_eq_true rfl) (And.intro rfl (And.intro rfl trivial)) ?_
  unfold fX0_isHere
  refine am_iload_n dX0_isHere_0 rfl rfl ?_
  refine am_cST lc_X0_78 (kX0_isVoice G M a1) rfl rfl rfl rfl rfl dX0_isHere_1 ?_
  refine am_if_eqS (tgt := 22) dX0_isHere_4 rfl ?_ ?_
  · refine am_iconst dX0_isHere_22 ic_0 ?_
    exact am_zret (by decide) dX0_isHere_23 rfl rfl
  · refine am_aload_n dX0_isHere_7 rfl rfl ?_
    refine am_getO (o2 := 2) lf_X0_38 rfl (by decide) dX0_isHere_8 ?_
    refine am_iload_n dX0_isHere_11 rfl rfl ?_
    refine am_cVT (as' := [am_i a1]) lc_X0_82 rfl (kX1_isThere G M 0 a1) rfl rfl rfl rfl rfl rfl dX0_isHere_12 ?_
    refine am_if_eqS (tgt := 22) dX0_isHere_15 rfl ?_ ?_
    · refine am_iconst dX0_isHere_22 ic_0 ?_
      exact am_zret (by decide) dX0_isHere_23 rfl rfl
    · refine am_iconst dX0_isHere_18 ic_1 ?_
      refine am_goto (tgt := 23) dX0_isHere_19 rfl ?_
      exact am_zret (by decide) dX0_isHere_23 rfl rfl
def fX0_breath (M : am_M) (a1 : Int32) (a2 : Int32) : Option (Int32 × am_M) :=
(if (fX0_isHere M a1) = 0 then
some ((-1 : Int32), M)
 else
(Option.bind (am_rd (M 2 8) 8 a1) fun v1 =>
(if (fX0_isIn ((a2).toInt64) (0 : Int64) ((v1).toInt64)) = 0 then
some ((-2 : Int32), M)
 else
(Option.bind (am_rd (M 2 9) 8 a1) fun v2 =>
(Option.bind (am_wr M 2 9 8 a1 a2) fun M3 =>
(Option.bind (if a2 = 0 then
some (-6 : Int32)
 else
(Option.bind (am_rd (M3 2 11) 8 a1) fun v6 =>
some v6)) fun (x4 : Int32) =>
(Option.bind (am_wr M3 2 11 8 a1 x4) fun M7 =>
some (v2, M7))))))))
set_option maxHeartbeats 4000000 in
theorem kX0_breath (G : am_G) (M : am_M) (a1 : Int32) (a2 : Int32) : am_C G 4 mX0_breath [am_r 0 0, am_i a1, am_i a2] M (fun r => (some (am_i r.1), r.2)) (fX0_breath M a1 a2) := by
  refine am_met (nL := 4) (ls0 := [some (am_r 0 0), some (am_i a1), some (am_i a2), none]) (by decide) rfl (Nat.le_of_ble_eq_true rfl) (And.intro rfl (And.intro rfl (And.intro rfl trivial))) ?_
  unfold fX0_breath
  refine am_aload_n dX0_breath_0 rfl rfl ?_
  refine am_iload_n dX0_breath_1 rfl rfl ?_
  refine am_cVT (as' := [am_i a1]) lc_X0_133 rfl (kX0_isHere G M a1) rfl rfl rfl rfl rfl rfl dX0_breath_2 ?_
  refine am_if_ne (tgt := 10) dX0_breath_5 rfl ?_ ?_
  · refine am_iconst dX0_breath_8 ic_m1 ?_
    exact am_iret dX0_breath_9 rfl rfl
  · refine am_iload_n dX0_breath_10 rfl rfl ?_
    refine am_i2l dX0_breath_11 ?_
    refine am_lconst (v := 0) dX0_breath_12 rfl ?_
    refine am_aload_n dX0_breath_13 rfl rfl ?_
    refine am_getO (o2 := 2) lf_X0_38 rfl (by decide) dX0_breath_14 ?_
    refine am_getA lf_X0_121 rfl rfl dX0_breath_17 ?_
    refine am_iload_n dX0_breath_20 rfl rfl ?_
    refine am_iald (β := Unit) rfl dX0_breath_21 (fun v1 => ?_)
    refine am_i2l dX0_breath_22 ?_
    refine am_cST lc_X0_3 (kX0_isIn G M ((a2).toInt64) (0 : Int64) ((v1).toInt64)) rfl rfl rfl rfl rfl dX0_breath_23 ?_
    refine am_if_ne (tgt := 32) dX0_breath_26 rfl ?_ ?_
    · refine am_bipush dX0_breath_29 bp_m2 ?_
      exact am_iret dX0_breath_31 rfl rfl
    · refine am_aload_n dX0_breath_32 rfl rfl ?_
      refine am_getO (o2 := 2) lf_X0_38 rfl (by decide) dX0_breath_33 ?_
      refine am_getA lf_X0_124 rfl rfl dX0_breath_36 ?_
      refine am_iload_n dX0_breath_39 rfl rfl ?_
      refine am_iald (β := Unit) rfl dX0_breath_40 (fun v2 => ?_)
      refine am_istore_n [some (am_r 0 0), some (am_i a1), some (am_i a2), some (am_i v2)] dX0_breath_41 rfl rfl (Nat.le_of_ble_eq_true rfl) rfl ?_
      refine am_aload_n dX0_breath_42 rfl rfl ?_
      refine am_getO (o2 := 2) lf_X0_38 rfl (by decide) dX0_breath_43 ?_
      refine am_getA lf_X0_124 rfl rfl dX0_breath_46 ?_
      refine am_iload_n dX0_breath_49 rfl rfl ?_
      refine am_iload_n dX0_breath_50 rfl rfl ?_
      refine am_iast rfl dX0_breath_51 (fun M3 => ?_)
      refine am_aload_n dX0_breath_52 rfl rfl ?_
      refine am_getO (o2 := 2) lf_X0_38 rfl (by decide) dX0_breath_53 ?_
      refine am_getA lf_X0_130 rfl rfl dX0_breath_56 ?_
      refine am_iload_n dX0_breath_59 rfl rfl ?_
      refine am_iload_n dX0_breath_60 rfl rfl ?_
      refine am_join (β := Int32) 78 (fun x4 => [some (am_r 0 0), some (am_i a1), some (am_i a2), some (am_i v2)]) (fun x4 => [am_i x4, am_i a1, am_r 2 12]) (fun x4 => M3) (fun x4 => ?_) (fun hm5 => ?_)
      · refine am_iast rfl dX0_breath_78 (fun M7 => ?_)
        refine am_iload_n dX0_breath_79 rfl rfl ?_
        exact am_iret dX0_breath_80 rfl rfl
      refine am_if_neB (tgt := 69) dX0_breath_61 rfl ?_ ?_
      · refine am_bipush dX0_breath_64 bp_m6 ?_
        refine am_goto (tgt := 78) dX0_breath_66 rfl ?_
        exact hm5 (-6 : Int32)
      · refine am_aload_n dX0_breath_69 rfl rfl ?_
        refine am_getO (o2 := 2) lf_X0_38 rfl (by decide) dX0_breath_70 ?_
        refine am_getA lf_X0_130 rfl rfl dX0_breath_73 ?_
        refine am_iload_n dX0_breath_76 rfl rfl ?_
        refine am_as ?_
        refine am_iald (β := Unit) rfl dX0_breath_77 (fun v6 => ?_)
        exact hm5 v6
def fX0_leave (M : am_M) (a1 : Int32) : Option (Int32 × am_M) :=
(if (fX0_isHere M a1) = 0 then
some ((-1 : Int32), M)
 else
(Option.bind (am_wr (am_put M 2 5 (fX0_with (M 2 5 0) a1 (0 : Int32))) 2 11 8 a1 (-6 : Int32)) fun M1 =>
(Option.bind (fJ0_bitCount (M1 2 5 0)) fun v2 =>
some (v2, M1))))
set_option maxHeartbeats 4000000 in
theorem kX0_leave (G : am_G) (M : am_M) (a1 : Int32) : am_C G 4 mX0_leave [am_r 0 0, am_i a1] M (fun r => (some (am_i r.1), r.2)) (fX0_leave M a1) := by
  refine am_met (nL := 2) (ls0 := [some (am_r 0 0), some (am_i a1)]) (by decide) rfl (Nat.le_of_ble_eq_true rfl) (And.intro rfl (And.intro rfl trivial)) ?_
  unfold fX0_leave
  refine am_aload_n dX0_leave_0 rfl rfl ?_
  refine am_iload_n dX0_leave_1 rfl rfl ?_
  refine am_cVT (as' := [am_i a1]) lc_X0_133 rfl (kX0_isHere G M a1) rfl rfl rfl rfl rfl rfl dX0_leave_2 ?_
  refine am_if_ne (tgt := 10) dX0_leave_5 rfl ?_ ?_
  · refine am_iconst dX0_leave_8 ic_m1 ?_
    exact am_iret dX0_leave_9 rfl rfl
  · refine am_aload_n dX0_leave_10 rfl rfl ?_
    refine am_getO (o2 := 2) lf_X0_38 rfl (by decide) dX0_leave_11 ?_
    refine am_aload_n dX0_leave_14 rfl rfl ?_
    refine am_getO (o2 := 2) lf_X0_38 rfl (by decide) dX0_leave_15 ?_
    refine am_get lf_X0_112 rfl rfl dX0_leave_18 ?_
    refine am_iload_n dX0_leave_21 rfl rfl ?_
    refine am_iconst dX0_leave_22 ic_0 ?_
    refine am_cST lc_X0_91 (kX0_with G M (M 2 5 0) a1 (0 : Int32)) rfl rfl rfl rfl rfl dX0_leave_23 ?_
    refine am_putf lf_X0_112 rfl rfl dX0_leave_26 ?_
    refine am_aload_n dX0_leave_29 rfl rfl ?_
    refine am_getO (o2 := 2) lf_X0_38 rfl (by decide) dX0_leave_30 ?_
    refine am_getA lf_X0_130 rfl rfl dX0_leave_33 ?_
    refine am_iload_n dX0_leave_36 rfl rfl ?_
    refine am_bipush dX0_leave_37 bp_m6 ?_
    refine am_iast rfl dX0_leave_39 (fun M1 => ?_)
    refine am_aload_n dX0_leave_40 rfl rfl ?_
    refine am_getO (o2 := 2) lf_X0_38 rfl (by decide) dX0_leave_41 ?_
    refine am_get lf_X0_112 rfl rfl dX0_leave_44 ?_
    refine am_cSI lc_X0_95 (kJ0_bitCount G M1 (M1 2 5 0)) rfl rfl rfl rfl rfl dX0_leave_47 (fun v2 => ?_)
    exact am_iret dX0_leave_50 rfl rfl
def fX0_say (M : am_M) (a1 : Int32) : Option (Int32 × am_M) :=
(if (fX0_isIn ((a1).toInt64) (33 : Int64) (126 : Int64)) = 0 then
some ((-2 : Int32), M)
 else
(if (M 0 4 0) = (60 : Int32) then
some ((-4 : Int32), M)
 else
(Option.bind (am_wr M 0 3 60 (M 0 4 0) (vp_nar .char (((a1).toUInt32 % 65536).toInt32))) fun M1 =>
some (((am_put M1 0 4 ((M1 0 4 0) + (1 : Int32))) 0 4 0), (am_put M1 0 4 ((M1 0 4 0) + (1 : Int32)))))))
set_option maxHeartbeats 4000000 in
theorem kX0_say (G : am_G) (M : am_M) (a1 : Int32) : am_C G 2 mX0_say [am_r 0 0, am_i a1] M (fun r => (some (am_i r.1), r.2)) (fX0_say M a1) := by
  refine am_met (nL := 2) (ls0 := [some (am_r 0 0), some (am_i a1)]) (by decide) rfl (Nat.le_of_ble_eq_true rfl) (And.intro rfl (And.intro rfl trivial)) ?_
  unfold fX0_say
  refine am_iload_n dX0_say_0 rfl rfl ?_
  refine am_i2l dX0_say_1 ?_
  refine am_ldc2 dX0_say_2 q260 ?_
  refine am_ldc2 dX0_say_5 q261 ?_
  refine am_cST lc_X0_3 (kX0_isIn G M ((a1).toInt64) (33 : Int64) (126 : Int64)) rfl rfl rfl rfl rfl dX0_say_8 ?_
  refine am_if_ne (tgt := 17) dX0_say_11 rfl ?_ ?_
  · refine am_bipush dX0_say_14 bp_m2 ?_
    exact am_iret dX0_say_16 rfl rfl
  · refine am_aload_n dX0_say_17 rfl rfl ?_
    refine am_get lf_X0_140 rfl rfl dX0_say_18 ?_
    refine am_bipush dX0_say_21 bp_60 ?_
    refine am_icmp_ne (tgt := 29) dX0_say_23 rfl ?_ ?_
    · refine am_bipush dX0_say_26 bp_m4 ?_
      exact am_iret dX0_say_28 rfl rfl
    · refine am_aload_n dX0_say_29 rfl rfl ?_
      refine am_getA lf_X0_49 rfl rfl dX0_say_30 ?_
      refine am_aload_n dX0_say_33 rfl rfl ?_
      refine am_get lf_X0_140 rfl rfl dX0_say_34 ?_
      refine am_iload_n dX0_say_37 rfl rfl ?_
      refine am_i2c dX0_say_38 ?_
      refine am_cast rfl dX0_say_39 (fun M1 => ?_)
      refine am_aload_n dX0_say_40 rfl rfl ?_
      refine am_dup dX0_say_41 rfl ?_
      refine am_get lf_X0_140 rfl rfl dX0_say_42 ?_
      refine am_iconst dX0_say_45 ic_1 ?_
      refine am_iadd dX0_say_46 ?_
      refine am_putf lf_X0_140 rfl rfl dX0_say_47 ?_
      refine am_aload_n dX0_say_50 rfl rfl ?_
      refine am_get lf_X0_140 rfl rfl dX0_say_51 ?_
      exact am_iret dX0_say_54 rfl rfl
def fX0_wipe (M : am_M) : Option (Int32 × am_M) :=
some ((M 0 4 0), (am_put M 0 4 (0 : Int32)))
set_option maxHeartbeats 4000000 in
theorem kX0_wipe (G : am_G) (M : am_M)  : am_C G 1 mX0_wipe [am_r 0 0] M (fun r => (some (am_i r.1), r.2)) (fX0_wipe M) := by
  refine am_met (nL := 2) (ls0 := [some (am_r 0 0), none]) (by decide) rfl (Nat.le_of_ble_eq_true rfl) (And.intro rfl trivial) ?_
  unfold fX0_wipe
  refine am_aload_n dX0_wipe_0 rfl rfl ?_
  refine am_get lf_X0_140 rfl rfl dX0_wipe_1 ?_
  refine am_istore_n [some (am_r 0 0), some (am_i (M 0 4 0))] dX0_wipe_4 rfl rfl (Nat.le_of_ble_eq_true rfl) rfl ?_
  refine am_aload_n dX0_wipe_5 rfl rfl ?_
  refine am_iconst dX0_wipe_6 ic_0 ?_
  refine am_putf lf_X0_140 rfl rfl dX0_wipe_7 ?_
  refine am_iload_n dX0_wipe_10 rfl rfl ?_
  exact am_iret dX0_wipe_11 rfl rfl
def fX0_closes (M : am_M) (a1 : Int32) (a2 : Int32) (a3 : Int32) : Option (Int32 × am_M) :=
(Option.bind (am_wr M 0 5 60 (M 0 8 0) a1) fun M1 =>
(Option.bind (am_wr M1 0 7 60 (M1 0 8 0) a2) fun M2 =>
(if a3 = 0 ∨ a3 = 1 then some (a3, (am_put (am_put M2 0 8 ((M2 0 8 0) + (1 : Int32))) 0 9 (0 : Int32))) else none)))
set_option maxHeartbeats 4000000 in
theorem kX0_closes (G : am_G) (M : am_M) (a1 : Int32) (a2 : Int32) (a3 : Int32) : am_C G 1 mX0_closes [am_r 0 0, am_i a1, am_i a2, am_i a3] M (fun r => (some (am_i r.1), r.2)) (fX0_closes M a1 a2 a3) := by
  refine am_met (nL := 4) (ls0 := [some (am_r 0 0), some (am_i a1), some (am_i a2), some (am_i a3)]) (by decide) rfl (Nat.le_of_ble_eq_true rfl) (And.intro rfl (And.intro rfl (And.intro rfl (And.intro rfl trivial)))) ?_
  unfold fX0_closes
  refine am_aload_n dX0_closes_0 rfl rfl ?_
  refine am_getA lf_X0_53 rfl rfl dX0_closes_1 ?_
  refine am_aload_n dX0_closes_4 rfl rfl ?_
  refine am_get lf_X0_143 rfl rfl dX0_closes_5 ?_
  refine am_iload_n dX0_closes_8 rfl rfl ?_
  refine am_iast rfl dX0_closes_9 (fun M1 => ?_)
  refine am_aload_n dX0_closes_10 rfl rfl ?_
  refine am_getA lf_X0_60 rfl rfl dX0_closes_11 ?_
  refine am_aload_n dX0_closes_14 rfl rfl ?_
  refine am_get lf_X0_143 rfl rfl dX0_closes_15 ?_
  refine am_iload_n dX0_closes_18 rfl rfl ?_
  refine am_iast rfl dX0_closes_19 (fun M2 => ?_)
  refine am_aload_n dX0_closes_20 rfl rfl ?_
  refine am_dup dX0_closes_21 rfl ?_
  refine am_get lf_X0_143 rfl rfl dX0_closes_22 ?_
  refine am_iconst dX0_closes_25 ic_1 ?_
  refine am_iadd dX0_closes_26 ?_
  refine am_putf lf_X0_143 rfl rfl dX0_closes_27 ?_
  refine am_aload_n dX0_closes_30 rfl rfl ?_
  refine am_iconst dX0_closes_31 ic_0 ?_
  refine am_putf lf_X0_146 rfl rfl dX0_closes_32 ?_
  refine am_iload_n dX0_closes_35 rfl rfl ?_
  refine am_ite (fun h3 => ?_) (fun _ => am_none)
  exact am_zret h3 dX0_closes_36 rfl rfl
def fX0_begins (M : am_M) (a1 : Int32) : Option (Int32 × am_M) :=
(Option.bind (if (fX0_isVoice (a1 - (65 : Int32))) = 0 then
some (0 : Int32)
 else
some (a1 - (65 : Int32))) fun (x1 : Int32) =>
(Option.bind (am_wr M 0 6 60 (M 0 8 0) x1) fun M3 =>
(if a1 = (46 : Int32) then
(Option.bind (fX0_closes M3 (4 : Int32) (0 : Int32) (1 : Int32)) fun r4 =>
(if r4.1 = 0 ∨ r4.1 = 1 then some (r4.1, r4.2) else none))
 else
(Option.bind (if a1 = (42 : Int32) then
some (3 : Int32)
 else
some (1 : Int32)) fun (x6 : Int32) =>
(if a1 = (42 : Int32) then
some ((1 : Int32), (am_put M3 0 9 x6))
 else
(if (fX0_isVoice (a1 - (65 : Int32))) = 0 then
some ((0 : Int32), (am_put M3 0 9 x6))
 else
some ((1 : Int32), (am_put M3 0 9 x6))))))))
set_option maxHeartbeats 4000000 in
theorem kX0_begins (G : am_G) (M : am_M) (a1 : Int32) : am_C G 3 mX0_begins [am_r 0 0, am_i a1] M (fun r => (some (am_i r.1), r.2)) (fX0_begins M a1) := by
  refine am_met (nL := 2) (ls0 := [some (am_r 0 0), some (am_i a1)]) (by decide) rfl (Nat.le_of_ble_eq_true rfl) (And.intro rfl (And.intro rfl trivial)) ?_
  unfold fX0_begins
  refine am_aload_n dX0_begins_0 rfl rfl ?_
  refine am_getA lf_X0_57 rfl rfl dX0_begins_1 ?_
  refine am_aload_n dX0_begins_4 rfl rfl ?_
  refine am_get lf_X0_143 rfl rfl dX0_begins_5 ?_
  refine am_iload_n dX0_begins_8 rfl rfl ?_
  refine am_bipush dX0_begins_9 bp_65 ?_
  refine am_isub dX0_begins_11 ?_
  refine am_cST lc_X0_78 (kX0_isVoice G M (a1 - (65 : Int32))) rfl rfl rfl rfl rfl dX0_begins_12 ?_
  refine am_join (β := Int32) 26 (fun x1 => [some (am_r 0 0), some (am_i a1)]) (fun x1 => [am_i x1, am_i (M 0 8 0), am_r 0 7]) (fun x1 => M) (fun x1 => ?_) (fun hm2 => ?_)
  · refine am_iast rfl dX0_begins_26 (fun M3 => ?_)
    refine am_iload_n dX0_begins_27 rfl rfl ?_
    refine am_bipush dX0_begins_28 bp_46 ?_
    refine am_icmp_ne (tgt := 41) dX0_begins_30 rfl ?_ ?_
    · refine am_aload_n dX0_begins_33 rfl rfl ?_
      refine am_iconst dX0_begins_34 ic_4 ?_
      refine am_iconst dX0_begins_35 ic_0 ?_
      refine am_iconst dX0_begins_36 ic_1 ?_
      refine am_cVX (as' := [am_i (4 : Int32), am_i (0 : Int32), am_i (1 : Int32)]) lc_X0_149 rfl (kX0_closes G M3 (4 : Int32) (0 : Int32) (1 : Int32)) rfl rfl rfl rfl rfl rfl dX0_begins_37 (fun r4 => ?_)
      refine am_ite (fun h5 => ?_) (fun _ => am_none)
      exact am_zret h5 dX0_begins_40 rfl rfl
    · refine am_aload_n dX0_begins_41 rfl rfl ?_
      refine am_iload_n dX0_begins_42 rfl rfl ?_
      refine am_bipush dX0_begins_43 bp_42 ?_
      refine am_join (β := Int32) 53 (fun x6 => [some (am_r 0 0), some (am_i a1)]) (fun x6 => [am_i x6, am_r 0 0]) (fun x6 => M3) (fun x6 => ?_) (fun hm7 => ?_)
      · refine am_putf lf_X0_146 rfl rfl dX0_begins_53 ?_
        refine am_iload_n dX0_begins_56 rfl rfl ?_
        refine am_bipush dX0_begins_57 bp_42 ?_
        refine am_icmp_eq (tgt := 72) dX0_begins_59 rfl ?_ ?_
        · refine am_iconst dX0_begins_72 ic_1 ?_
          refine am_goto (tgt := 77) dX0_begins_73 rfl ?_
          exact am_zret (by decide) dX0_begins_77 rfl rfl
        · refine am_iload_n dX0_begins_62 rfl rfl ?_
          refine am_bipush dX0_begins_63 bp_65 ?_
          refine am_isub dX0_begins_65 ?_
          refine am_cST lc_X0_78 (kX0_isVoice G (am_put M3 0 9 x6) (a1 - (65 : Int32))) rfl rfl rfl rfl rfl dX0_begins_66 ?_
          refine am_if_eq (tgt := 76) dX0_begins_69 rfl ?_ ?_
          · refine am_iconst dX0_begins_76 ic_0 ?_
            exact am_zret (by decide) dX0_begins_77 rfl rfl
          · refine am_iconst dX0_begins_72 ic_1 ?_
            refine am_goto (tgt := 77) dX0_begins_73 rfl ?_
            exact am_zret (by decide) dX0_begins_77 rfl rfl
      refine am_icmp_neB (tgt := 52) dX0_begins_45 rfl ?_ ?_
      · refine am_iconst dX0_begins_48 ic_3 ?_
        refine am_goto (tgt := 53) dX0_begins_49 rfl ?_
        exact hm7 (3 : Int32)
      · refine am_iconst dX0_begins_52 ic_1 ?_
        exact hm7 (1 : Int32)
  refine am_if_eqB (tgt := 25) dX0_begins_15 rfl ?_ ?_
  · refine am_iconst dX0_begins_25 ic_0 ?_
    exact hm2 (0 : Int32)
  · refine am_iload_n dX0_begins_18 rfl rfl ?_
    refine am_bipush dX0_begins_19 bp_65 ?_
    refine am_isub dX0_begins_21 ?_
    refine am_goto (tgt := 26) dX0_begins_22 rfl ?_
    exact hm2 (a1 - (65 : Int32))
def fX0_goesOn (M : am_M) (a1 : Int32) : Option (Int32 × am_M) :=
(if a1 = (62 : Int32) then
some ((1 : Int32), (am_put M 0 9 (2 : Int32)))
 else
(if a1 = (45 : Int32) then
(Option.bind (fX0_closes M (1 : Int32) (0 : Int32) (1 : Int32)) fun r1 =>
(if r1.1 = 0 ∨ r1.1 = 1 then some (r1.1, r1.2) else none))
 else
(Option.bind (fX0_closes M (0 : Int32) (a1 - (97 : Int32)) (fX0_isNote (a1 - (97 : Int32)))) fun r3 =>
(if r3.1 = 0 ∨ r3.1 = 1 then some (r3.1, r3.2) else none))))
set_option maxHeartbeats 4000000 in
theorem kX0_goesOn (G : am_G) (M : am_M) (a1 : Int32) : am_C G 3 mX0_goesOn [am_r 0 0, am_i a1] M (fun r => (some (am_i r.1), r.2)) (fX0_goesOn M a1) := by
  refine am_met (nL := 2) (ls0 := [some (am_r 0 0), some (am_i a1)]) (by decide) rfl (Nat.le_of_ble_eq_true rfl) (And.intro rfl (And.intro rfl trivial)) ?_
  unfold fX0_goesOn
  refine am_iload_n dX0_goesOn_0 rfl rfl ?_
  refine am_bipush dX0_goesOn_1 bp_62 ?_
  refine am_icmp_ne (tgt := 13) dX0_goesOn_3 rfl ?_ ?_
  · refine am_aload_n dX0_goesOn_6 rfl rfl ?_
    refine am_iconst dX0_goesOn_7 ic_2 ?_
    refine am_putf lf_X0_146 rfl rfl dX0_goesOn_8 ?_
    refine am_iconst dX0_goesOn_11 ic_1 ?_
    exact am_zret (by decide) dX0_goesOn_12 rfl rfl
  · refine am_iload_n dX0_goesOn_13 rfl rfl ?_
    refine am_bipush dX0_goesOn_14 bp_45 ?_
    refine am_icmp_ne (tgt := 29) dX0_goesOn_16 rfl ?_ ?_
    · refine am_aload_n dX0_goesOn_19 rfl rfl ?_
      refine am_iconst dX0_goesOn_20 ic_1 ?_
      refine am_iconst dX0_goesOn_21 ic_0 ?_
      refine am_iconst dX0_goesOn_22 ic_1 ?_
      refine am_cVX (as' := [am_i (1 : Int32), am_i (0 : Int32), am_i (1 : Int32)]) lc_X0_149 rfl (kX0_closes G M (1 : Int32) (0 : Int32) (1 : Int32)) rfl rfl rfl rfl rfl rfl dX0_goesOn_23 (fun r1 => ?_)
      refine am_goto (tgt := 45) dX0_goesOn_26 rfl ?_
      refine am_ite (fun h2 => ?_) (fun _ => am_none)
      exact am_zret h2 dX0_goesOn_45 rfl rfl
    · refine am_aload_n dX0_goesOn_29 rfl rfl ?_
      refine am_iconst dX0_goesOn_30 ic_0 ?_
      refine am_iload_n dX0_goesOn_31 rfl rfl ?_
      refine am_bipush dX0_goesOn_32 bp_97 ?_
      refine am_isub dX0_goesOn_34 ?_
      refine am_iload_n dX0_goesOn_35 rfl rfl ?_
      refine am_bipush dX0_goesOn_36 bp_97 ?_
      refine am_isub dX0_goesOn_38 ?_
      refine am_cST lc_X0_107 (kX0_isNote G M (a1 - (97 : Int32))) rfl rfl rfl rfl rfl dX0_goesOn_39 ?_
      refine am_cVX (as' := [am_i (0 : Int32), am_i (a1 - (97 : Int32)), am_i (fX0_isNote (a1 - (97 : Int32)))]) lc_X0_149 rfl (kX0_closes G M (0 : Int32) (a1 - (97 : Int32)) (fX0_isNote (a1 - (97 : Int32)))) rfl rfl rfl rfl rfl rfl dX0_goesOn_42 (fun r3 => ?_)
      refine am_ite (fun h4 => ?_) (fun _ => am_none)
      exact am_zret h4 dX0_goesOn_45 rfl rfl
def fX0_reads (M : am_M) (a1 : Int32) : Option (Int32 × am_M) :=
(if (M 0 9 0) = 0 then
(Option.bind (fX0_begins M a1) fun r2 =>
(if r2.1 = 0 ∨ r2.1 = 1 then some (r2.1, r2.2) else none))
 else
(if (M 0 9 0) = 1 then
(Option.bind (fX0_goesOn M a1) fun r5 =>
(if r5.1 = 0 ∨ r5.1 = 1 then some (r5.1, r5.2) else none))
 else
(if (M 0 9 0) = 2 then
(Option.bind (fX0_closes M (2 : Int32) (a1 - (48 : Int32)) (fX0_isGallery (a1 - (48 : Int32)))) fun r8 =>
(if r8.1 = 0 ∨ r8.1 = 1 then some (r8.1, r8.2) else none))
 else
(Option.bind (fX0_closes M (3 : Int32) (a1 - (48 : Int32)) (fX0_isGallery (a1 - (48 : Int32)))) fun r10 =>
(if r10.1 = 0 ∨ r10.1 = 1 then some (r10.1, r10.2) else none)))))
set_option maxHeartbeats 4000000 in
theorem kX0_reads (G : am_G) (M : am_M) (a1 : Int32) : am_C G 4 mX0_reads [am_r 0 0, am_i a1] M (fun r => (some (am_i r.1), r.2)) (fX0_reads M a1) := by
  refine am_met (nL := 2) (ls0 := [some (am_r 0 0), some (am_i a1)]) (by decide) rfl (Nat.le_of_ble_eq_true rfl) (And.intro rfl (And.intro rfl trivial)) ?_
  unfold fX0_reads
  refine am_aload_n dX0_reads_0 rfl rfl ?_
  refine am_get lf_X0_146 rfl rfl dX0_reads_1 ?_
  refine am_ite (fun h1 => ?_) (fun h1 => ?_)
  · refine am_swI (tgt := 32) 0 h1 dX0_reads_4 (by decide) (by decide) rfl rfl ?_
    refine am_aload_n dX0_reads_32 rfl rfl ?_
    refine am_iload_n dX0_reads_33 rfl rfl ?_
    refine am_cVX (as' := [am_i a1]) lc_X0_153 rfl (kX0_begins G M a1) rfl rfl rfl rfl rfl rfl dX0_reads_34 (fun r2 => ?_)
    refine am_ite (fun h3 => ?_) (fun _ => am_none)
    exact am_zret h3 dX0_reads_37 rfl rfl
  refine am_ite (fun h4 => ?_) (fun h4 => ?_)
  · refine am_swI (tgt := 38) 1 h4 dX0_reads_4 (by decide) (by decide) rfl rfl ?_
    refine am_aload_n dX0_reads_38 rfl rfl ?_
    refine am_iload_n dX0_reads_39 rfl rfl ?_
    refine am_cVX (as' := [am_i a1]) lc_X0_157 rfl (kX0_goesOn G M a1) rfl rfl rfl rfl rfl rfl dX0_reads_40 (fun r5 => ?_)
    refine am_ite (fun h6 => ?_) (fun _ => am_none)
    exact am_zret h6 dX0_reads_43 rfl rfl
  refine am_ite (fun h7 => ?_) (fun h7 => ?_)
  · refine am_swI (tgt := 44) 2 h7 dX0_reads_4 (by decide) (by decide) rfl rfl ?_
    refine am_aload_n dX0_reads_44 rfl rfl ?_
    refine am_iconst dX0_reads_45 ic_2 ?_
    refine am_iload_n dX0_reads_46 rfl rfl ?_
    refine am_bipush dX0_reads_47 bp_48 ?_
    refine am_isub dX0_reads_49 ?_
    refine am_iload_n dX0_reads_50 rfl rfl ?_
    refine am_bipush dX0_reads_51 bp_48 ?_
    refine am_isub dX0_reads_53 ?_
    refine am_cST lc_X0_85 (kX0_isGallery G M (a1 - (48 : Int32))) rfl rfl rfl rfl rfl dX0_reads_54 ?_
    refine am_cVX (as' := [am_i (2 : Int32), am_i (a1 - (48 : Int32)), am_i (fX0_isGallery (a1 - (48 : Int32)))]) lc_X0_149 rfl (kX0_closes G M (2 : Int32) (a1 - (48 : Int32)) (fX0_isGallery (a1 - (48 : Int32)))) rfl rfl rfl rfl rfl rfl dX0_reads_57 (fun r8 => ?_)
    refine am_ite (fun h9 => ?_) (fun _ => am_none)
    exact am_zret h9 dX0_reads_60 rfl rfl
  refine am_swO (tgt := 61) dX0_reads_4 (by have h1 := lv_neT (a := 0) h1 (by decide); have h4 := lv_neT (a := 1) h4 (by decide); have h7 := lv_neT (a := 2) h7 (by decide); omega) rfl ?_
  refine am_aload_n dX0_reads_61 rfl rfl ?_
  refine am_iconst dX0_reads_62 ic_3 ?_
  refine am_iload_n dX0_reads_63 rfl rfl ?_
  refine am_bipush dX0_reads_64 bp_48 ?_
  refine am_isub dX0_reads_66 ?_
  refine am_iload_n dX0_reads_67 rfl rfl ?_
  refine am_bipush dX0_reads_68 bp_48 ?_
  refine am_isub dX0_reads_70 ?_
  refine am_cST lc_X0_85 (kX0_isGallery G M (a1 - (48 : Int32))) rfl rfl rfl rfl rfl dX0_reads_71 ?_
  refine am_cVX (as' := [am_i (3 : Int32), am_i (a1 - (48 : Int32)), am_i (fX0_isGallery (a1 - (48 : Int32)))]) lc_X0_149 rfl (kX0_closes G M (3 : Int32) (a1 - (48 : Int32)) (fX0_isGallery (a1 - (48 : Int32)))) rfl rfl rfl rfl rfl rfl dX0_reads_74 (fun r10 => ?_)
  refine am_ite (fun h11 => ?_) (fun _ => am_none)
  exact am_zret h11 dX0_reads_77 rfl rfl
def fX0_fault_L12  (rec1 : (Int32 × am_M) → Option ((Int32 × am_M) ⊕ (Int32 × am_M))) (s2 : (Int32 × am_M)) : Option ((Int32 × am_M) ⊕ (Int32 × am_M)) :=
(if ((s2.2) 0 4 0) ≤ s2.1 then
some (.inr (s2.1, s2.2))
 else
(Option.bind (am_rd ((s2.2) 0 3) 60 s2.1) fun v3 =>
(Option.bind (fX0_reads s2.2 v3) fun r4 =>
(if r4.1 = 0 then
some (.inl (s2.1, r4.2))
 else
rec1 ((s2.1 + 1), r4.2)))))
def fX0_fault (M : am_M) : Option (Int32 × am_M) :=
(Option.bind (am_it fX0_fault_L12 am_fuel ((0 : Int32), (am_put (am_put M 0 8 (0 : Int32)) 0 9 (0 : Int32)))) (Sum.elim some fun (s5 : (Int32 × am_M)) =>
(if ((s5.2) 0 9 0) = 0 then
some ((-6 : Int32), s5.2)
 else
some (((s5.2) 0 4 0), s5.2))))
set_option maxHeartbeats 4000000 in
theorem kX0_fault (G : am_G) (M : am_M)  : am_C G 5 mX0_fault [am_r 0 0] M (fun r => (some (am_i r.1), r.2)) (fX0_fault M) := by
  refine am_met (nL := 2) (ls0 := [some (am_r 0 0), none]) (by decide) rfl (Nat.le_of_ble_eq_true rfl) (And.intro rfl trivial) ?_
  unfold fX0_fault
  refine am_aload_n dX0_fault_0 rfl rfl ?_
  refine am_iconst dX0_fault_1 ic_0 ?_
  refine am_putf lf_X0_143 rfl rfl dX0_fault_2 ?_
  refine am_aload_n dX0_fault_5 rfl rfl ?_
  refine am_iconst dX0_fault_6 ic_0 ?_
  refine am_putf lf_X0_146 rfl rfl dX0_fault_7 ?_
  refine am_iconst dX0_fault_10 ic_0 ?_
  refine am_istore_n [some (am_r 0 0), some (am_i (0 : Int32))] dX0_fault_11 rfl rfl (Nat.le_of_ble_eq_true rfl) rfl ?_
  refine am_joinR (S := (Int32 × am_M)) 41 (fun s5 => [some (am_r 0 0), none]) (fun _ => []) (fun s5 => s5.2) (fun s5 => ?_) (fun hx4 => ?_)
  · refine am_aload_n dX0_fault_41 rfl rfl ?_
    refine am_get lf_X0_146 rfl rfl dX0_fault_42 ?_
    refine am_if_ne (tgt := 53) dX0_fault_45 rfl ?_ ?_
    · refine am_bipush dX0_fault_48 bp_m6 ?_
      refine am_goto (tgt := 57) dX0_fault_50 rfl ?_
      exact am_iret dX0_fault_57 rfl rfl
    · refine am_aload_n dX0_fault_53 rfl rfl ?_
      refine am_get lf_X0_140 rfl rfl dX0_fault_54 ?_
      exact am_iret dX0_fault_57 rfl rfl
  refine am_loop (σ := (Int32 × am_M)) (ls' := fun s1 => [some (am_r 0 0), some (am_i s1.1)]) (st' := fun _ => []) (M' := fun s1 => s1.2) (fun rec2 hr3 s1 => ?_) _ _
  unfold fX0_fault_L12
  refine am_iload_n dX0_fault_12 rfl rfl ?_
  refine am_aload_n dX0_fault_13 rfl rfl ?_
  refine am_get lf_X0_140 rfl rfl dX0_fault_14 ?_
  refine am_icmp_geB (tgt := 41) dX0_fault_17 rfl ?_ ?_
  · exact am_dr (hx4 (s1.1, s1.2)) (And.intro rfl trivial)
  · refine am_aload_n dX0_fault_20 rfl rfl ?_
    refine am_aload_n dX0_fault_21 rfl rfl ?_
    refine am_getA lf_X0_49 rfl rfl dX0_fault_22 ?_
    refine am_iload_n dX0_fault_25 rfl rfl ?_
    refine am_as ?_
    refine am_cald rfl dX0_fault_26 (fun v6 => ?_)
    refine am_as ?_
    refine am_cVX (as' := [am_i v6]) lc_X0_160 rfl (kX0_reads G s1.2 v6) rfl rfl rfl rfl rfl rfl dX0_fault_27 (fun r7 => ?_)
    refine am_if_neB (tgt := 35) dX0_fault_30 rfl ?_ ?_
    · refine am_iload_n dX0_fault_33 rfl rfl ?_
      show am_R _ _ _ _ _ _ _ _ (some (s1.1, r7.2))
      exact am_iret dX0_fault_34 rfl rfl
    · refine am_iinc [some (am_r 0 0), some (am_i (s1.1 + 1))] dX0_fault_35 rfl ic_1 rfl (Nat.le_of_ble_eq_true rfl) rfl ?_
      refine am_goto (tgt := 12) dX0_fault_38 rfl ?_
      exact hr3 ((s1.1 + 1), r7.2)
def fX0_isEnd (a0 : Int32) : Int32 :=
(fX0_isIn ((a0).toInt64) (0 : Int64) (1 : Int64))
theorem bX0_isEnd (a0 : Int32) : fX0_isEnd a0 = 0 ∨ fX0_isEnd a0 = 1 := by
  unfold fX0_isEnd
  exact bX0_isIn _ _ _ 
set_option maxHeartbeats 4000000 in
theorem kX0_isEnd (G : am_G) (M : am_M) (a0 : Int32) : am_C G 2 mX0_isEnd [am_i a0] M (fun r => (some (am_i r), M)) (some (fX0_isEnd a0)) := by
  refine am_met (nL := 1) (ls0 := [some (am_i a0)]) (by decide) rfl (Nat.le_of_ble_eq_true rfl) (And.intro rfl trivial) ?_
  unfold fX0_isEnd
  refine am_iload_n dX0_isEnd_0 rfl rfl ?_
  refine am_i2l dX0_isEnd_1 ?_
  refine am_lconst (v := 0) dX0_isEnd_2 rfl ?_
  refine am_lconst (v := 1) dX0_isEnd_3 rfl ?_
  refine am_cST lc_X0_3 (kX0_isIn G M ((a0).toInt64) (0 : Int64) (1 : Int64)) rfl rfl rfl rfl rfl dX0_isEnd_4 ?_
  exact am_zret (bX0_isIn _ _ _ ) dX0_isEnd_7 rfl rfl
def fX0_layOver (M : am_M) (j0 : Nat) (k0 : Nat) (n0 : Nat) (j1 : Nat) (k1 : Nat) (n1 : Nat) : Option am_M :=
(Option.bind (am_cp M j0 k0 n0 j1 k1 n1 (Int32.ofNat n0)) fun M1 =>
some M1)
set_option maxHeartbeats 4000000 in
theorem kX0_layOver (G : am_G) (M : am_M) (j0 : Nat) (k0 : Nat) (n0 : Nat) (j1 : Nat) (k1 : Nat) (n1 : Nat) (h0a : am_kd (am_cls j0) k0 = (1, n0)) (h1a : am_kd (am_cls j1) k1 = (1, n1)): am_C G 1 mX0_layOver [am_r j0 (k0 + 1), am_r j1 (k1 + 1)] M (fun r => (none, r)) (fX0_layOver M j0 k0 n0 j1 k1 n1) := by
  refine am_met (nL := 2) (ls0 := [some (am_r j0 (k0 + 1)), some (am_r j1 (k1 + 1))]) (by decide) rfl (Nat.le_of_ble_eq_true rfl) (And.intro rfl (And.intro rfl trivial)) ?_
  unfold fX0_layOver
  refine am_aload_n dX0_layOver_0 rfl rfl ?_
  refine am_iconst dX0_layOver_1 ic_0 ?_
  refine am_aload_n dX0_layOver_2 rfl rfl ?_
  refine am_iconst dX0_layOver_3 ic_0 ?_
  refine am_aload_n dX0_layOver_4 rfl rfl ?_
  refine am_alen h0a (by decide) rfl dX0_layOver_5 ?_
  refine am_acopy h0a h1a q305 q307 q306 q55 (Nat.le_of_ble_eq_true rfl) dX0_layOver_6 (fun M1 => ?_)
  exact am_vret dX0_layOver_9 rfl rfl
def fX1_take (M : am_M) (j : Nat) (j1 : Nat) : Option am_M :=
(Option.bind (fX0_layOver M (j1 + 2) 0 10 (j + 2) 0 10) fun M1 =>
(Option.bind (fX0_layOver M1 (j1 + 2) 1 10 (j + 2) 1 10) fun M2 =>
(Option.bind (fX0_layOver M2 (j1 + 2) 2 10 (j + 2) 2 10) fun M3 =>
(Option.bind (fX0_layOver (am_put (am_put (am_put M3 (j + 2) 3 (M3 (j1 + 2) 3 0)) (j + 2) 4 ((am_put M3 (j + 2) 3 (M3 (j1 + 2) 3 0)) (j1 + 2) 4 0)) (j + 2) 5 ((am_put (am_put M3 (j + 2) 3 (M3 (j1 + 2) 3 0)) (j + 2) 4 ((am_put M3 (j + 2) 3 (M3 (j1 + 2) 3 0)) (j1 + 2) 4 0)) (j1 + 2) 5 0)) (j1 + 2) 6 8 (j + 2) 6 8) fun M4 =>
(Option.bind (fX0_layOver M4 (j1 + 2) 7 8 (j + 2) 7 8) fun M5 =>
(Option.bind (fX0_layOver M5 (j1 + 2) 8 8 (j + 2) 8 8) fun M6 =>
(Option.bind (fX0_layOver M6 (j1 + 2) 9 8 (j + 2) 9 8) fun M7 =>
(Option.bind (fX0_layOver M7 (j1 + 2) 10 8 (j + 2) 10 8) fun M8 =>
(Option.bind (fX0_layOver M8 (j1 + 2) 11 8 (j + 2) 11 8) fun M9 =>
(Option.bind (fX0_layOver (am_put M9 (j + 2) 12 (M9 (j1 + 2) 12 0)) (j1 + 2) 13 8 (j + 2) 13 8) fun M10 =>
(Option.bind (fX0_layOver M10 (j1 + 2) 14 8 (j + 2) 14 8) fun M11 =>
some (am_put M11 (j + 2) 15 (M11 (j1 + 2) 15 0)))))))))))))
set_option maxHeartbeats 4000000 in
theorem kX1_take (G : am_G) (M : am_M) (j : Nat) (j1 : Nat) : am_C G 2 mX1_take [am_r (j + 2) 0, am_r (j1 + 2) 0] M (fun r => (none, r)) (fX1_take M j j1) := by
  refine am_met (nL := 2) (ls0 := [some (am_r (j + 2) 0), some (am_r (j1 + 2) 0)]) (by decide) rfl (Nat.le_of_ble_eq_true rfl) (And.intro rfl (And.intro rfl trivial)) ?_
  unfold fX1_take
  refine am_aload_n dX1_take_0 rfl rfl ?_
  refine am_getA lf_X1_9 rfl rfl dX1_take_1 ?_
  refine am_aload_n dX1_take_4 rfl rfl ?_
  refine am_getA lf_X1_9 rfl rfl dX1_take_5 ?_
  refine am_cMU rfl lc_X1_52 (kX0_layOver G M (j1 + 2) 0 10 (j + 2) 0 10 rfl rfl) rfl rfl rfl rfl rfl dX1_take_8 (fun M1 => ?_)
  refine am_aload_n dX1_take_11 rfl rfl ?_
  refine am_getA lf_X1_15 rfl rfl dX1_take_12 ?_
  refine am_aload_n dX1_take_15 rfl rfl ?_
  refine am_getA lf_X1_15 rfl rfl dX1_take_16 ?_
  refine am_cMU rfl lc_X1_52 (kX0_layOver G M1 (j1 + 2) 1 10 (j + 2) 1 10 rfl rfl) rfl rfl rfl rfl rfl dX1_take_19 (fun M2 => ?_)
  refine am_aload_n dX1_take_22 rfl rfl ?_
  refine am_getA lf_X1_18 rfl rfl dX1_take_23 ?_
  refine am_aload_n dX1_take_26 rfl rfl ?_
  refine am_getA lf_X1_18 rfl rfl dX1_take_27 ?_
  refine am_cMU rfl lc_X1_52 (kX0_layOver G M2 (j1 + 2) 2 10 (j + 2) 2 10 rfl rfl) rfl rfl rfl rfl rfl dX1_take_30 (fun M3 => ?_)
  refine am_aload_n dX1_take_33 rfl rfl ?_
  refine am_aload_n dX1_take_34 rfl rfl ?_
  refine am_get lf_X1_56 rfl rfl dX1_take_35 ?_
  refine am_putf lf_X1_56 rfl rfl dX1_take_38 ?_
  refine am_aload_n dX1_take_41 rfl rfl ?_
  refine am_aload_n dX1_take_42 rfl rfl ?_
  refine am_get lf_X1_60 rfl rfl dX1_take_43 ?_
  refine am_putf lf_X1_60 rfl rfl dX1_take_46 ?_
  refine am_aload_n dX1_take_49 rfl rfl ?_
  refine am_aload_n dX1_take_50 rfl rfl ?_
  refine am_get lf_X1_63 rfl rfl dX1_take_51 ?_
  refine am_putf lf_X1_63 rfl rfl dX1_take_54 ?_
  refine am_aload_n dX1_take_57 rfl rfl ?_
  refine am_getA lf_X1_21 rfl rfl dX1_take_58 ?_
  refine am_aload_n dX1_take_61 rfl rfl ?_
  refine am_getA lf_X1_21 rfl rfl dX1_take_62 ?_
  refine am_cMU rfl lc_X1_52 (kX0_layOver G (am_put (am_put (am_put M3 (j + 2) 3 (M3 (j1 + 2) 3 0)) (j + 2) 4 ((am_put M3 (j + 2) 3 (M3 (j1 + 2) 3 0)) (j1 + 2) 4 0)) (j + 2) 5 ((am_put (am_put M3 (j + 2) 3 (M3 (j1 + 2) 3 0)) (j + 2) 4 ((am_put M3 (j + 2) 3 (M3 (j1 + 2) 3 0)) (j1 + 2) 4 0)) (j1 + 2) 5 0)) (j1 + 2) 6 8 (j + 2) 6 8 rfl rfl) rfl rfl rfl rfl rfl dX1_take_65 (fun M4 => ?_)
  refine am_aload_n dX1_take_68 rfl rfl ?_
  refine am_getA lf_X1_24 rfl rfl dX1_take_69 ?_
  refine am_aload_n dX1_take_72 rfl rfl ?_
  refine am_getA lf_X1_24 rfl rfl dX1_take_73 ?_
  refine am_cMU rfl lc_X1_52 (kX0_layOver G M4 (j1 + 2) 7 8 (j + 2) 7 8 rfl rfl) rfl rfl rfl rfl rfl dX1_take_76 (fun M5 => ?_)
  refine am_aload_n dX1_take_79 rfl rfl ?_
  refine am_getA lf_X1_27 rfl rfl dX1_take_80 ?_
  refine am_aload_n dX1_take_83 rfl rfl ?_
  refine am_getA lf_X1_27 rfl rfl dX1_take_84 ?_
  refine am_cMU rfl lc_X1_52 (kX0_layOver G M5 (j1 + 2) 8 8 (j + 2) 8 8 rfl rfl) rfl rfl rfl rfl rfl dX1_take_87 (fun M6 => ?_)
  refine am_aload_n dX1_take_90 rfl rfl ?_
  refine am_getA lf_X1_30 rfl rfl dX1_take_91 ?_
  refine am_aload_n dX1_take_94 rfl rfl ?_
  refine am_getA lf_X1_30 rfl rfl dX1_take_95 ?_
  refine am_cMU rfl lc_X1_52 (kX0_layOver G M6 (j1 + 2) 9 8 (j + 2) 9 8 rfl rfl) rfl rfl rfl rfl rfl dX1_take_98 (fun M7 => ?_)
  refine am_aload_n dX1_take_101 rfl rfl ?_
  refine am_getA lf_X1_33 rfl rfl dX1_take_102 ?_
  refine am_aload_n dX1_take_105 rfl rfl ?_
  refine am_getA lf_X1_33 rfl rfl dX1_take_106 ?_
  refine am_cMU rfl lc_X1_52 (kX0_layOver G M7 (j1 + 2) 10 8 (j + 2) 10 8 rfl rfl) rfl rfl rfl rfl rfl dX1_take_109 (fun M8 => ?_)
  refine am_aload_n dX1_take_112 rfl rfl ?_
  refine am_getA lf_X1_36 rfl rfl dX1_take_113 ?_
  refine am_aload_n dX1_take_116 rfl rfl ?_
  refine am_getA lf_X1_36 rfl rfl dX1_take_117 ?_
  refine am_cMU rfl lc_X1_52 (kX0_layOver G M8 (j1 + 2) 11 8 (j + 2) 11 8 rfl rfl) rfl rfl rfl rfl rfl dX1_take_120 (fun M9 => ?_)
  refine am_aload_n dX1_take_123 rfl rfl ?_
  refine am_aload_n dX1_take_124 rfl rfl ?_
  refine am_get lf_X1_66 rfl rfl dX1_take_125 ?_
  refine am_putf lf_X1_66 rfl rfl dX1_take_128 ?_
  refine am_aload_n dX1_take_131 rfl rfl ?_
  refine am_getA lf_X1_39 rfl rfl dX1_take_132 ?_
  refine am_aload_n dX1_take_135 rfl rfl ?_
  refine am_getA lf_X1_39 rfl rfl dX1_take_136 ?_
  refine am_cMU rfl lc_X1_52 (kX0_layOver G (am_put M9 (j + 2) 12 (M9 (j1 + 2) 12 0)) (j1 + 2) 13 8 (j + 2) 13 8 rfl rfl) rfl rfl rfl rfl rfl dX1_take_139 (fun M10 => ?_)
  refine am_aload_n dX1_take_142 rfl rfl ?_
  refine am_getA lf_X1_42 rfl rfl dX1_take_143 ?_
  refine am_aload_n dX1_take_146 rfl rfl ?_
  refine am_getA lf_X1_42 rfl rfl dX1_take_147 ?_
  refine am_cMU rfl lc_X1_52 (kX0_layOver G M10 (j1 + 2) 14 8 (j + 2) 14 8 rfl rfl) rfl rfl rfl rfl rfl dX1_take_150 (fun M11 => ?_)
  refine am_aload_n dX1_take_153 rfl rfl ?_
  refine am_aload_n dX1_take_154 rfl rfl ?_
  refine am_get lf_X1_69 rfl rfl dX1_take_155 ?_
  refine am_putf lf_X1_69 rfl rfl dX1_take_158 ?_
  exact am_vret dX1_take_161 rfl rfl
def fX1_whyNotSing (m : Nat → Nat → Int32) (a1 : Int32) (a2 : Int32) : Option Int32 :=
(Option.bind (am_rd (m 6) 8 a1) fun v1 =>
(Option.bind (am_rd (m 7) 8 a1) fun v2 =>
(if (fX0_isIn ((a2).toInt64) ((v1).toInt64) ((v2).toInt64)) = 0 then
some (2 : Int32)
 else
(Option.bind (am_rd (m 11) 8 a1) fun v3 =>
(if v3 = a2 then
some (3 : Int32)
 else
(Option.bind (am_rd (m 9) 8 a1) fun v4 =>
(if v4 = 0 then
some (4 : Int32)
 else
some (0 : Int32))))))))
set_option maxHeartbeats 4000000 in
theorem kX1_whyNotSing (G : am_G) (M : am_M) (j : Nat) (a1 : Int32) (a2 : Int32) : am_C G 2 mX1_whyNotSing [am_r (j + 2) 0, am_i a1, am_i a2] M (fun r => (some (am_i r), M)) (fX1_whyNotSing (M (j + 2)) a1 a2) := by
  refine am_met (nL := 3) (ls0 := [some (am_r (j + 2) 0), some (am_i a1), some (am_i a2)]) (by decide) rfl (Nat.le_of_ble_eq_true rfl) (And.intro rfl (And.intro rfl (And.intro rfl trivial))) ?_
  unfold fX1_whyNotSing
  refine am_iload_n dX1_whyNotSing_0 rfl rfl ?_
  refine am_i2l dX1_whyNotSing_1 ?_
  refine am_aload_n dX1_whyNotSing_2 rfl rfl ?_
  refine am_getA lf_X1_21 rfl rfl dX1_whyNotSing_3 ?_
  refine am_iload_n dX1_whyNotSing_6 rfl rfl ?_
  refine am_iald (β := Unit) rfl dX1_whyNotSing_7 (fun v1 => ?_)
  refine am_i2l dX1_whyNotSing_8 ?_
  refine am_aload_n dX1_whyNotSing_9 rfl rfl ?_
  refine am_getA lf_X1_24 rfl rfl dX1_whyNotSing_10 ?_
  refine am_iload_n dX1_whyNotSing_13 rfl rfl ?_
  refine am_iald (β := Unit) rfl dX1_whyNotSing_14 (fun v2 => ?_)
  refine am_i2l dX1_whyNotSing_15 ?_
  refine am_cMT rfl lc_X1_102 (kX0_isIn G M ((a2).toInt64) ((v1).toInt64) ((v2).toInt64)) rfl rfl rfl rfl rfl dX1_whyNotSing_16 ?_
  refine am_if_ne (tgt := 24) dX1_whyNotSing_19 rfl ?_ ?_
  · refine am_iconst dX1_whyNotSing_22 ic_2 ?_
    exact am_iret dX1_whyNotSing_23 rfl rfl
  · refine am_aload_n dX1_whyNotSing_24 rfl rfl ?_
    refine am_getA lf_X1_36 rfl rfl dX1_whyNotSing_25 ?_
    refine am_iload_n dX1_whyNotSing_28 rfl rfl ?_
    refine am_iald (β := Unit) rfl dX1_whyNotSing_29 (fun v3 => ?_)
    refine am_iload_n dX1_whyNotSing_30 rfl rfl ?_
    refine am_icmp_ne (tgt := 38) dX1_whyNotSing_31 rfl ?_ ?_
    · refine am_iconst dX1_whyNotSing_34 ic_3 ?_
      refine am_goto (tgt := 52) dX1_whyNotSing_35 rfl ?_
      exact am_iret dX1_whyNotSing_52 rfl rfl
    · refine am_aload_n dX1_whyNotSing_38 rfl rfl ?_
      refine am_getA lf_X1_30 rfl rfl dX1_whyNotSing_39 ?_
      refine am_iload_n dX1_whyNotSing_42 rfl rfl ?_
      refine am_iald (β := Unit) rfl dX1_whyNotSing_43 (fun v4 => ?_)
      refine am_if_ne (tgt := 51) dX1_whyNotSing_44 rfl ?_ ?_
      · refine am_iconst dX1_whyNotSing_47 ic_4 ?_
        refine am_goto (tgt := 52) dX1_whyNotSing_48 rfl ?_
        exact am_iret dX1_whyNotSing_52 rfl rfl
      · refine am_iconst dX1_whyNotSing_51 ic_0 ?_
        exact am_iret dX1_whyNotSing_52 rfl rfl
def fX1_whyNotGo (m : Nat → Nat → Int32) (a1 : Int32) (a2 : Int32) : Option Int32 :=
(Option.bind (am_rd (m 10) 8 a1) fun v1 =>
(Option.bind (am_rd (m 0) 10 v1) fun v2 =>
(if (fX0_holds v2 a2) = 0 then
some (5 : Int32)
 else
(Option.bind (am_rd (m 10) 8 a1) fun v3 =>
(if (fX0_holds (m 4 0) v3) = 0 then
(if (fX0_holds (m 4 0) a2) = 0 then
some (0 : Int32)
 else
some (6 : Int32))
 else
some (6 : Int32))))))
set_option maxHeartbeats 4000000 in
theorem kX1_whyNotGo (G : am_G) (M : am_M) (j : Nat) (a1 : Int32) (a2 : Int32) : am_C G 2 mX1_whyNotGo [am_r (j + 2) 0, am_i a1, am_i a2] M (fun r => (some (am_i r), M)) (fX1_whyNotGo (M (j + 2)) a1 a2) := by
  refine am_met (nL := 3) (ls0 := [some (am_r (j + 2) 0), some (am_i a1), some (am_i a2)]) (by decide) rfl (Nat.le_of_ble_eq_true rfl) (And.intro rfl (And.intro rfl (And.intro rfl trivial))) ?_
  unfold fX1_whyNotGo
  refine am_aload_n dX1_whyNotGo_0 rfl rfl ?_
  refine am_getA lf_X1_9 rfl rfl dX1_whyNotGo_1 ?_
  refine am_aload_n dX1_whyNotGo_4 rfl rfl ?_
  refine am_getA lf_X1_33 rfl rfl dX1_whyNotGo_5 ?_
  refine am_iload_n dX1_whyNotGo_8 rfl rfl ?_
  refine am_iald (β := Unit) rfl dX1_whyNotGo_9 (fun v1 => ?_)
  refine am_iald (β := Unit) rfl dX1_whyNotGo_10 (fun v2 => ?_)
  refine am_iload_n dX1_whyNotGo_11 rfl rfl ?_
  refine am_cMT rfl lc_X1_72 (kX0_holds G M v2 a2) rfl rfl rfl rfl rfl dX1_whyNotGo_12 ?_
  refine am_if_ne (tgt := 20) dX1_whyNotGo_15 rfl ?_ ?_
  · refine am_iconst dX1_whyNotGo_18 ic_5 ?_
    exact am_iret dX1_whyNotGo_19 rfl rfl
  · refine am_aload_n dX1_whyNotGo_20 rfl rfl ?_
    refine am_get lf_X1_60 rfl rfl dX1_whyNotGo_21 ?_
    refine am_aload_n dX1_whyNotGo_24 rfl rfl ?_
    refine am_getA lf_X1_33 rfl rfl dX1_whyNotGo_25 ?_
    refine am_iload_n dX1_whyNotGo_28 rfl rfl ?_
    refine am_iald (β := Unit) rfl dX1_whyNotGo_29 (fun v3 => ?_)
    refine am_cMT rfl lc_X1_72 (kX0_holds G M ((M (j + 2)) 4 0) v3) rfl rfl rfl rfl rfl dX1_whyNotGo_30 ?_
    refine am_if_ne (tgt := 47) dX1_whyNotGo_33 rfl ?_ ?_
    · refine am_aload_n dX1_whyNotGo_36 rfl rfl ?_
      refine am_get lf_X1_60 rfl rfl dX1_whyNotGo_37 ?_
      refine am_iload_n dX1_whyNotGo_40 rfl rfl ?_
      refine am_cMT rfl lc_X1_72 (kX0_holds G M ((M (j + 2)) 4 0) a2) rfl rfl rfl rfl rfl dX1_whyNotGo_41 ?_
      refine am_if_eq (tgt := 52) dX1_whyNotGo_44 rfl ?_ ?_
      · refine am_iconst dX1_whyNotGo_52 ic_0 ?_
        exact am_iret dX1_whyNotGo_53 rfl rfl
      · refine am_bipush dX1_whyNotGo_47 bp_6 ?_
        refine am_goto (tgt := 53) dX1_whyNotGo_49 rfl ?_
        exact am_iret dX1_whyNotGo_53 rfl rfl
    · refine am_bipush dX1_whyNotGo_47 bp_6 ?_
      refine am_goto (tgt := 53) dX1_whyNotGo_49 rfl ?_
      exact am_iret dX1_whyNotGo_53 rfl rfl
def fX1_whyNot (m : Nat → Nat → Int32) (a1 : Int32) (a2 : Int32) (a3 : Int32) : Option Int32 :=
(if a1 = (4 : Int32) then
(if (m 12 0) = (999 : Int32) then
some (7 : Int32)
 else
some (0 : Int32))
 else
(if a1 = (3 : Int32) then
some (0 : Int32)
 else
(if (fX1_isThere m a2) = 0 then
some (1 : Int32)
 else
(if a1 = 0 then
(Option.bind (fX1_whyNotSing m a2 a3) fun v1 =>
some v1)
 else
(if a1 = (2 : Int32) then
(Option.bind (fX1_whyNotGo m a2 a3) fun v2 =>
some v2)
 else
(Option.bind (am_rd (m 11) 8 a2) fun v3 =>
(if 0 ≤ v3 then
some (0 : Int32)
 else
some (3 : Int32))))))))
set_option maxHeartbeats 4000000 in
theorem kX1_whyNot (G : am_G) (M : am_M) (j : Nat) (a1 : Int32) (a2 : Int32) (a3 : Int32) : am_C G 3 mX1_whyNot [am_r (j + 2) 0, am_i a1, am_i a2, am_i a3] M (fun r => (some (am_i r), M)) (fX1_whyNot (M (j + 2)) a1 a2 a3) := by
  refine am_met (nL := 4) (ls0 := [some (am_r (j + 2) 0), some (am_i a1), some (am_i a2), some (am_i a3)]) (by decide) rfl (Nat.le_of_ble_eq_true rfl) (And.intro rfl (And.intro rfl (And.intro rfl (And.intro rfl trivial)))) ?_
  unfold fX1_whyNot
  refine am_iload_n dX1_whyNot_0 rfl rfl ?_
  refine am_iconst dX1_whyNot_1 ic_4 ?_
  refine am_icmp_ne (tgt := 22) dX1_whyNot_2 rfl ?_ ?_
  · refine am_aload_n dX1_whyNot_5 rfl rfl ?_
    refine am_get lf_X1_66 rfl rfl dX1_whyNot_6 ?_
    refine am_sipush dX1_whyNot_9 sp_999 ?_
    refine am_icmp_ne (tgt := 20) dX1_whyNot_12 rfl ?_ ?_
    · refine am_bipush dX1_whyNot_15 bp_7 ?_
      refine am_goto (tgt := 21) dX1_whyNot_17 rfl ?_
      exact am_iret dX1_whyNot_21 rfl rfl
    · refine am_iconst dX1_whyNot_20 ic_0 ?_
      exact am_iret dX1_whyNot_21 rfl rfl
  · refine am_iload_n dX1_whyNot_22 rfl rfl ?_
    refine am_iconst dX1_whyNot_23 ic_3 ?_
    refine am_icmp_ne (tgt := 29) dX1_whyNot_24 rfl ?_ ?_
    · refine am_iconst dX1_whyNot_27 ic_0 ?_
      exact am_iret dX1_whyNot_28 rfl rfl
    · refine am_aload_n dX1_whyNot_29 rfl rfl ?_
      refine am_iload_n dX1_whyNot_30 rfl rfl ?_
      refine am_cVT (as' := [am_i a2]) lc_X1_76 rfl (kX1_isThere G M j a2) rfl rfl rfl rfl rfl rfl dX1_whyNot_31 ?_
      refine am_if_ne (tgt := 39) dX1_whyNot_34 rfl ?_ ?_
      · refine am_iconst dX1_whyNot_37 ic_1 ?_
        exact am_iret dX1_whyNot_38 rfl rfl
      · refine am_iload_n dX1_whyNot_39 rfl rfl ?_
        refine am_if_ne (tgt := 52) dX1_whyNot_40 rfl ?_ ?_
        · refine am_aload_n dX1_whyNot_43 rfl rfl ?_
          refine am_iload_n dX1_whyNot_44 rfl rfl ?_
          refine am_iload_n dX1_whyNot_45 rfl rfl ?_
          refine am_cVI (as' := [am_i a2, am_i a3]) lc_X1_106 rfl (kX1_whyNotSing G M j a2 a3) rfl rfl rfl rfl rfl rfl dX1_whyNot_46 (fun v1 => ?_)
          refine am_goto (tgt := 80) dX1_whyNot_49 rfl ?_
          exact am_iret dX1_whyNot_80 rfl rfl
        · refine am_iload_n dX1_whyNot_52 rfl rfl ?_
          refine am_iconst dX1_whyNot_53 ic_2 ?_
          refine am_icmp_ne (tgt := 66) dX1_whyNot_54 rfl ?_ ?_
          · refine am_aload_n dX1_whyNot_57 rfl rfl ?_
            refine am_iload_n dX1_whyNot_58 rfl rfl ?_
            refine am_iload_n dX1_whyNot_59 rfl rfl ?_
            refine am_cVI (as' := [am_i a2, am_i a3]) lc_X1_109 rfl (kX1_whyNotGo G M j a2 a3) rfl rfl rfl rfl rfl rfl dX1_whyNot_60 (fun v2 => ?_)
            refine am_goto (tgt := 80) dX1_whyNot_63 rfl ?_
            exact am_iret dX1_whyNot_80 rfl rfl
          · refine am_aload_n dX1_whyNot_66 rfl rfl ?_
            refine am_getA lf_X1_36 rfl rfl dX1_whyNot_67 ?_
            refine am_iload_n dX1_whyNot_70 rfl rfl ?_
            refine am_iald (β := Unit) rfl dX1_whyNot_71 (fun v3 => ?_)
            refine am_if_ge (tgt := 79) dX1_whyNot_72 rfl ?_ ?_
            · refine am_iconst dX1_whyNot_79 ic_0 ?_
              exact am_iret dX1_whyNot_80 rfl rfl
            · refine am_iconst dX1_whyNot_75 ic_3 ?_
              refine am_goto (tgt := 80) dX1_whyNot_76 rfl ?_
              exact am_iret dX1_whyNot_80 rfl rfl
def fX1_sings (m : Nat → Nat → Int32) (a1 : Int32) : Option Int32 :=
(if (fX1_isThere m a1) = 0 then
some (0 : Int32)
 else
(Option.bind (am_rd (m 11) 8 a1) fun v1 =>
(if v1 < 0 then
some (0 : Int32)
 else
some (1 : Int32))))
set_option maxHeartbeats 4000000 in
theorem kX1_sings (G : am_G) (M : am_M) (j : Nat) (a1 : Int32) : am_C G 3 mX1_sings [am_r (j + 2) 0, am_i a1] M (fun r => (some (am_i r), M)) (fX1_sings (M (j + 2)) a1) := by
  refine am_met (nL := 2) (ls0 := [some (am_r (j + 2) 0), some (am_i a1)]) (by decide) rfl (Nat.le_of_ble_eq_true rfl) (And.intro rfl (And.intro rfl trivial)) ?_
  unfold fX1_sings
  refine am_aload_n dX1_sings_0 rfl rfl ?_
  refine am_iload_n dX1_sings_1 rfl rfl ?_
  refine am_cVT (as' := [am_i a1]) lc_X1_76 rfl (kX1_isThere G M j a1) rfl rfl rfl rfl rfl rfl dX1_sings_2 ?_
  refine am_if_eq (tgt := 21) dX1_sings_5 rfl ?_ ?_
  · refine am_iconst dX1_sings_21 ic_0 ?_
    exact am_zret (by decide) dX1_sings_22 rfl rfl
  · refine am_aload_n dX1_sings_8 rfl rfl ?_
    refine am_getA lf_X1_36 rfl rfl dX1_sings_9 ?_
    refine am_iload_n dX1_sings_12 rfl rfl ?_
    refine am_iald (β := Unit) rfl dX1_sings_13 (fun v1 => ?_)
    refine am_if_lt (tgt := 21) dX1_sings_14 rfl ?_ ?_
    · refine am_iconst dX1_sings_21 ic_0 ?_
      exact am_zret (by decide) dX1_sings_22 rfl rfl
    · refine am_iconst dX1_sings_17 ic_1 ?_
      refine am_goto (tgt := 22) dX1_sings_18 rfl ?_
      exact am_zret (by decide) dX1_sings_22 rfl rfl
def fX0_isThird (a0 : Int32) (a1 : Int32) : Int32 :=
(fX0_isIn (((jv_abs (a0 - a1))).toInt64) (3 : Int64) (4 : Int64))
theorem bX0_isThird (a0 : Int32) (a1 : Int32) : fX0_isThird a0 a1 = 0 ∨ fX0_isThird a0 a1 = 1 := by
  unfold fX0_isThird
  exact bX0_isIn _ _ _ 
set_option maxHeartbeats 4000000 in
theorem kX0_isThird (G : am_G) (M : am_M) (a0 : Int32) (a1 : Int32) : am_C G 2 mX0_isThird [am_i a0, am_i a1] M (fun r => (some (am_i r), M)) (some (fX0_isThird a0 a1)) := by
  refine am_met (nL := 2) (ls0 := [some (am_i a0), some (am_i a1)]) (by decide) rfl (Nat.le_of_ble_eq_true rfl) (And.intro rfl (And.intro rfl trivial)) ?_
  unfold fX0_isThird
  refine am_iload_n dX0_isThird_0 rfl rfl ?_
  refine am_iload_n dX0_isThird_1 rfl rfl ?_
  refine am_isub dX0_isThird_2 ?_
  refine am_mabs q345 rfl rfl dX0_isThird_3 ?_
  refine am_i2l dX0_isThird_6 ?_
  refine am_ldc2 dX0_isThird_7 q348 ?_
  refine am_ldc2 dX0_isThird_10 q349 ?_
  refine am_cST lc_X0_3 (kX0_isIn G M (((jv_abs (a0 - a1))).toInt64) (3 : Int64) (4 : Int64)) rfl rfl rfl rfl rfl dX0_isThird_13 ?_
  exact am_zret (bX0_isIn _ _ _ ) dX0_isThird_16 rfl rfl
def fX1_isTaken_L2 (m : Nat → Nat → Int32) (a1 : Int32) (rec1 : Int32 → Option (Int32 ⊕ Int32)) (s2 : Int32) : Option (Int32 ⊕ Int32) :=
(if (8 : Int32) ≤ s2 then
some (.inr s2)
 else
(Option.bind (fX1_sings m s2) fun v3 =>
(if v3 = 0 then
rec1 (s2 + 1)
 else
(Option.bind (am_rd (m 10) 8 s2) fun v4 =>
(Option.bind (am_rd (m 10) 8 a1) fun v5 =>
(if v4 = v5 then
(Option.bind (am_rd (m 11) 8 s2) fun v6 =>
(Option.bind (am_rd (m 11) 8 a1) fun v7 =>
(if (fX0_isThird v6 v7) = 0 then
rec1 (s2 + 1)
 else
(Option.bind (am_rd (m 10) 8 a1) fun v8 =>
some (.inl (fX0_holds (m 3 0) v8))))))
 else
rec1 (s2 + 1)))))))
def fX1_isTaken (m : Nat → Nat → Int32) (a1 : Int32) : Option Int32 :=
(Option.bind (am_it (fX1_isTaken_L2 m a1) am_fuel (0 : Int32)) (Sum.elim some fun (s5 : Int32) =>
some (0 : Int32)))
set_option maxHeartbeats 4000000 in
theorem kX1_isTaken (G : am_G) (M : am_M) (j : Nat) (a1 : Int32) : am_C G 4 mX1_isTaken [am_r (j + 2) 0, am_i a1] M (fun r => (some (am_i r), M)) (fX1_isTaken (M (j + 2)) a1) := by
  refine am_met (nL := 3) (ls0 := [some (am_r (j + 2) 0), some (am_i a1), none]) (by decide) rfl (Nat.le_of_ble_eq_true rfl) (And.intro rfl (And.intro rfl trivial)) ?_
  unfold fX1_isTaken
  refine am_iconst dX1_isTaken_0 ic_0 ?_
  refine am_istore_n [some (am_r (j + 2) 0), some (am_i a1), some (am_i (0 : Int32))] dX1_isTaken_1 rfl rfl (Nat.le_of_ble_eq_true rfl) rfl ?_
  refine am_joinR (S := Int32) 69 (fun s5 => [none, none, none]) (fun _ => []) (fun s5 => M) (fun s5 => ?_) (fun hx4 => ?_)
  · refine am_iconst dX1_isTaken_69 ic_0 ?_
    exact am_zret (by decide) dX1_isTaken_70 rfl rfl
  refine am_loop (σ := Int32) (ls' := fun s1 => [some (am_r (j + 2) 0), some (am_i a1), some (am_i s1)]) (st' := fun _ => []) (M' := fun s1 => M) (fun rec2 hr3 s1 => ?_) _ _
  unfold fX1_isTaken_L2
  refine am_iload_n dX1_isTaken_2 rfl rfl ?_
  refine am_bipush dX1_isTaken_3 bp_8 ?_
  refine am_icmp_geB (tgt := 69) dX1_isTaken_5 rfl ?_ ?_
  · exact am_dr (hx4 s1) trivial
  · refine am_aload_n dX1_isTaken_8 rfl rfl ?_
    refine am_iload_n dX1_isTaken_9 rfl rfl ?_
    refine am_as ?_
    refine am_cVI (as' := [am_i s1]) lc_X1_80 rfl (kX1_sings G M j s1) rfl rfl rfl rfl rfl rfl dX1_isTaken_10 (fun v6 => ?_)
    refine am_if_eqB (tgt := 63) dX1_isTaken_13 rfl ?_ ?_
    · refine am_iinc [some (am_r (j + 2) 0), some (am_i a1), some (am_i (s1 + 1))] dX1_isTaken_63 rfl ic_1 rfl (Nat.le_of_ble_eq_true rfl) rfl ?_
      refine am_goto (tgt := 2) dX1_isTaken_66 rfl ?_
      exact hr3 (s1 + 1)
    · refine am_aload_n dX1_isTaken_16 rfl rfl ?_
      refine am_getA lf_X1_33 rfl rfl dX1_isTaken_17 ?_
      refine am_iload_n dX1_isTaken_20 rfl rfl ?_
      refine am_as ?_
      refine am_iald (β := Unit) rfl dX1_isTaken_21 (fun v7 => ?_)
      refine am_aload_n dX1_isTaken_22 rfl rfl ?_
      refine am_getA lf_X1_33 rfl rfl dX1_isTaken_23 ?_
      refine am_iload_n dX1_isTaken_26 rfl rfl ?_
      refine am_as ?_
      refine am_iald (β := Unit) rfl dX1_isTaken_27 (fun v8 => ?_)
      refine am_icmp_neB (tgt := 63) dX1_isTaken_28 rfl ?_ ?_
      · refine am_aload_n dX1_isTaken_31 rfl rfl ?_
        refine am_getA lf_X1_36 rfl rfl dX1_isTaken_32 ?_
        refine am_iload_n dX1_isTaken_35 rfl rfl ?_
        refine am_as ?_
        refine am_iald (β := Unit) rfl dX1_isTaken_36 (fun v9 => ?_)
        refine am_aload_n dX1_isTaken_37 rfl rfl ?_
        refine am_getA lf_X1_36 rfl rfl dX1_isTaken_38 ?_
        refine am_iload_n dX1_isTaken_41 rfl rfl ?_
        refine am_as ?_
        refine am_iald (β := Unit) rfl dX1_isTaken_42 (fun v10 => ?_)
        refine am_cMT rfl lc_X1_83 (kX0_isThird G M v9 v10) rfl rfl rfl rfl rfl dX1_isTaken_43 ?_
        refine am_if_eqB (tgt := 63) dX1_isTaken_46 rfl ?_ ?_
        · refine am_iinc [some (am_r (j + 2) 0), some (am_i a1), some (am_i (s1 + 1))] dX1_isTaken_63 rfl ic_1 rfl (Nat.le_of_ble_eq_true rfl) rfl ?_
          refine am_goto (tgt := 2) dX1_isTaken_66 rfl ?_
          exact hr3 (s1 + 1)
        · refine am_aload_n dX1_isTaken_49 rfl rfl ?_
          refine am_get lf_X1_56 rfl rfl dX1_isTaken_50 ?_
          refine am_aload_n dX1_isTaken_53 rfl rfl ?_
          refine am_getA lf_X1_33 rfl rfl dX1_isTaken_54 ?_
          refine am_iload_n dX1_isTaken_57 rfl rfl ?_
          refine am_as ?_
          refine am_iald (β := Unit) rfl dX1_isTaken_58 (fun v11 => ?_)
          refine am_cMT rfl lc_X1_72 (kX0_holds G M ((M (j + 2)) 3 0) v11) rfl rfl rfl rfl rfl dX1_isTaken_59 ?_
          show am_R _ _ _ _ _ _ _ _ (some (fX0_holds ((M (j + 2)) 3 0) v11))
          exact am_zret (bX0_holds _ _ ) dX1_isTaken_62 rfl rfl
      · refine am_iinc [some (am_r (j + 2) 0), some (am_i a1), some (am_i (s1 + 1))] dX1_isTaken_63 rfl ic_1 rfl (Nat.le_of_ble_eq_true rfl) rfl ?_
        refine am_goto (tgt := 2) dX1_isTaken_66 rfl ?_
        exact hr3 (s1 + 1)
def fX1_sungIn_L4 (m : Nat → Nat → Int32) (a1 : Int32) (rec1 : (Int32 × Int32) → Option (Int32 × Int32)) (s2 : (Int32 × Int32)) : Option (Int32 × Int32) :=
(if (8 : Int32) ≤ s2.2 then
some (s2.1, s2.2)
 else
(Option.bind (fX1_sings m s2.2) fun v3 =>
(Option.bind (if v3 = 0 then
some (0 : Int32)
 else
(Option.bind (am_rd (m 10) 8 s2.2) fun v4 =>
(if v4 = a1 then
(Option.bind (fX1_isTaken m s2.2) fun v5 =>
(if v5 = 0 then
some (1 : Int32)
 else
some (0 : Int32)))
 else
some (0 : Int32)))) fun (x6 : Int32) =>
(Option.bind (if x6 = 0 then
some s2.1
 else
(Option.bind (am_rd (m 11) 8 s2.2) fun v7 =>
some (jv_max s2.1 ((1 : Int32) + v7)))) fun (x8 : Int32) =>
rec1 (x8, (s2.2 + 1))))))
def fX1_sungIn (m : Nat → Nat → Int32) (a1 : Int32) : Option Int32 :=
(Option.bind (am_it (fX1_sungIn_L4 m a1) am_fuel ((0 : Int32), (0 : Int32))) fun (s5 : (Int32 × Int32)) =>
some s5.1)
set_option maxHeartbeats 4000000 in
theorem kX1_sungIn (G : am_G) (M : am_M) (j : Nat) (a1 : Int32) : am_C G 5 mX1_sungIn [am_r (j + 2) 0, am_i a1] M (fun r => (some (am_i r), M)) (fX1_sungIn (M (j + 2)) a1) := by
  refine am_met (nL := 5) (ls0 := [some (am_r (j + 2) 0), some (am_i a1), none, none, none]) (by decide) rfl (Nat.le_of_ble_eq_true rfl) (And.intro rfl (And.intro rfl trivial)) ?_
  unfold fX1_sungIn
  refine am_iconst dX1_sungIn_0 ic_0 ?_
  refine am_istore_n [some (am_r (j + 2) 0), some (am_i a1), some (am_i (0 : Int32)), none, none] dX1_sungIn_1 rfl rfl (Nat.le_of_ble_eq_true rfl) rfl ?_
  refine am_iconst dX1_sungIn_2 ic_0 ?_
  refine am_istore_n [some (am_r (j + 2) 0), some (am_i a1), some (am_i (0 : Int32)), some (am_i (0 : Int32)), none] dX1_sungIn_3 rfl rfl (Nat.le_of_ble_eq_true rfl) rfl ?_
  refine am_join (β := (Int32 × Int32)) 71 (fun s5 => [none, none, some (am_i s5.1), none, none]) (fun _ => []) (fun s5 => M) (fun s5 => ?_) (fun hx4 => ?_)
  · refine am_iload_n dX1_sungIn_71 rfl rfl ?_
    exact am_iret dX1_sungIn_72 rfl rfl
  refine am_loop (σ := (Int32 × Int32)) (ls' := fun s1 => [some (am_r (j + 2) 0), some (am_i a1), some (am_i s1.1), some (am_i s1.2), none]) (st' := fun _ => []) (M' := fun s1 => M) (fun rec2 hr3 s1 => ?_) _ _
  unfold fX1_sungIn_L4
  refine am_iload_n dX1_sungIn_4 rfl rfl ?_
  refine am_bipush dX1_sungIn_5 bp_8 ?_
  refine am_icmp_geB (tgt := 71) dX1_sungIn_7 rfl ?_ ?_
  · exact am_dr (hx4 (s1.1, s1.2)) (And.intro rfl trivial)
  · refine am_aload_n dX1_sungIn_10 rfl rfl ?_
    refine am_iload_n dX1_sungIn_11 rfl rfl ?_
    refine am_as ?_
    refine am_cVI (as' := [am_i s1.2]) lc_X1_80 rfl (kX1_sings G M j s1.2) rfl rfl rfl rfl rfl rfl dX1_sungIn_12 (fun v6 => ?_)
    refine am_as ?_
    refine am_join (β := Int32) 41 (fun x7 => [some (am_r (j + 2) 0), some (am_i a1), some (am_i s1.1), some (am_i s1.2), none]) (fun x7 => [am_i x7]) (fun x7 => M) (fun x7 => ?_) (fun hm8 => ?_)
    · refine am_istore [some (am_r (j + 2) 0), some (am_i a1), some (am_i s1.1), some (am_i s1.2), some (am_i x7)] dX1_sungIn_41 rfl (Nat.le_of_ble_eq_true rfl) rfl ?_
      refine am_iload dX1_sungIn_43 rfl ?_
      refine am_as ?_
      refine am_join (β := Int32) 64 (fun x11 => [some (am_r (j + 2) 0), some (am_i a1), some (am_i s1.1), some (am_i s1.2), some (am_i x7)]) (fun x11 => [am_i x11]) (fun x11 => M) (fun x11 => ?_) (fun hm12 => ?_)
      · refine am_istore_n [some (am_r (j + 2) 0), some (am_i a1), some (am_i x11), some (am_i s1.2), some (am_i x7)] dX1_sungIn_64 rfl rfl (Nat.le_of_ble_eq_true rfl) rfl ?_
        refine am_iinc [some (am_r (j + 2) 0), some (am_i a1), some (am_i x11), some (am_i (s1.2 + 1)), some (am_i x7)] dX1_sungIn_65 rfl ic_1 rfl (Nat.le_of_ble_eq_true rfl) rfl ?_
        refine am_goto (tgt := 4) dX1_sungIn_68 rfl ?_
        exact am_dr (hr3 (x11, (s1.2 + 1))) (And.intro rfl (And.intro rfl (And.intro rfl (And.intro rfl trivial))))
      refine am_if_eqB (tgt := 63) dX1_sungIn_45 rfl ?_ ?_
      · refine am_iload_n dX1_sungIn_63 rfl rfl ?_
        exact hm12 s1.1
      · refine am_iload_n dX1_sungIn_48 rfl rfl ?_
        refine am_iconst dX1_sungIn_49 ic_1 ?_
        refine am_aload_n dX1_sungIn_50 rfl rfl ?_
        refine am_getA lf_X1_36 rfl rfl dX1_sungIn_51 ?_
        refine am_iload_n dX1_sungIn_54 rfl rfl ?_
        refine am_as ?_
        refine am_iald (β := Unit) rfl dX1_sungIn_55 (fun v13 => ?_)
        refine am_iadd dX1_sungIn_56 ?_
        refine am_mmax q350 rfl rfl dX1_sungIn_57 ?_
        refine am_goto (tgt := 64) dX1_sungIn_60 rfl ?_
        exact hm12 (jv_max s1.1 ((1 : Int32) + v13))
    refine am_if_eqB (tgt := 40) dX1_sungIn_15 rfl ?_ ?_
    · refine am_iconst dX1_sungIn_40 ic_0 ?_
      exact hm8 (0 : Int32)
    · refine am_aload_n dX1_sungIn_18 rfl rfl ?_
      refine am_getA lf_X1_33 rfl rfl dX1_sungIn_19 ?_
      refine am_iload_n dX1_sungIn_22 rfl rfl ?_
      refine am_as ?_
      refine am_iald (β := Unit) rfl dX1_sungIn_23 (fun v9 => ?_)
      refine am_iload_n dX1_sungIn_24 rfl rfl ?_
      refine am_icmp_neB (tgt := 40) dX1_sungIn_25 rfl ?_ ?_
      · refine am_aload_n dX1_sungIn_28 rfl rfl ?_
        refine am_iload_n dX1_sungIn_29 rfl rfl ?_
        refine am_as ?_
        refine am_cVI (as' := [am_i s1.2]) lc_X1_86 rfl (kX1_isTaken G M j s1.2) rfl rfl rfl rfl rfl rfl dX1_sungIn_30 (fun v10 => ?_)
        refine am_if_neB (tgt := 40) dX1_sungIn_33 rfl ?_ ?_
        · refine am_iconst dX1_sungIn_36 ic_1 ?_
          refine am_goto (tgt := 41) dX1_sungIn_37 rfl ?_
          exact hm8 (1 : Int32)
        · refine am_iconst dX1_sungIn_40 ic_0 ?_
          exact hm8 (0 : Int32)
      · refine am_iconst dX1_sungIn_40 ic_0 ?_
        exact hm8 (0 : Int32)
