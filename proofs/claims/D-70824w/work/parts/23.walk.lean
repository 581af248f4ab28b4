/-! walks, printed by gen/decomp.py -/
set_option maxRecDepth 100000
def fX0_keep_L23 (M : am_M) (v1 : Int32) (rec2 : (Int32 × Int32) → Option (Int32 × Int32)) (s3 : (Int32 × Int32)) : Option (Int32 × Int32) :=
(if v1 < s3.2 then
some (s3.1, s3.2)
 else
(Option.bind (if (s3.2 &&& (v1 ^^^ (-1 : Int32))) = 0 then
(Option.bind (fJ0_bitCount s3.2) fun v4 =>
(Option.bind (fJ0_bitCount s3.1) fun v5 =>
(if v4 ≤ v5 then
some (0 : Int32)
 else
some (1 : Int32))))
 else
some (0 : Int32)) fun (x6 : Int32) =>
(Option.bind (if x6 = 0 then
some s3.1
 else
(Option.bind (fX0_isKept M s3.2) fun v7 =>
(if v7 = 0 then
some s3.1
 else
some s3.2))) fun (x8 : Int32) =>
rec2 (x8, (s3.2 + 1)))))
def fX0_keep (M : am_M) (a1 : Int32) : Option Int32 :=
(if (fX0_isEnd a1) = 0 then
some (-2 : Int32)
 else
(Option.bind (fX1_singing (M 2)) fun v1 =>
(Option.bind (am_it (fX0_keep_L23 M v1) am_fuel ((0 : Int32), (1 : Int32))) fun (s6 : (Int32 × Int32)) =>
(if a1 = 0 then
(Option.bind (fJ0_bitCount s6.1) fun v14 =>
some v14)
 else
some s6.1))))
set_option maxHeartbeats 4000000 in
theorem kX0_keep (G : am_G) (M : am_M) (a1 : Int32) : am_C G 5 mX0_keep [am_r 0 0, am_i a1] M (fun r => (some (am_i r), M)) (fX0_keep M a1) := by
  refine am_met (nL := 6) (ls0 := [some (am_r 0 0), some (am_i a1), none, none, none, none]) (by decide) rfl (Nat.le_of_ble_eq_true rfl) (And.intro rfl (And.intro rfl trivial)) ?_
  unfold fX0_keep
  refine am_iload_n dX0_keep_0 rfl rfl ?_
  refine am_cST lc_X0_197 (kX0_isEnd G M a1) rfl rfl rfl rfl rfl dX0_keep_1 ?_
  refine am_if_ne (tgt := 10) dX0_keep_4 rfl ?_ ?_
  · refine am_bipush dX0_keep_7 bp_m2 ?_
    exact am_iret dX0_keep_9 rfl rfl
  · refine am_aload_n dX0_keep_10 rfl rfl ?_
    refine am_getO (o2 := 2) lf_X0_38 rfl (by decide) dX0_keep_11 ?_
    refine am_cVI (as' := []) lc_X0_242 rfl (kX1_singing G M 0) rfl rfl rfl rfl rfl rfl dX0_keep_14 (fun v1 => ?_)
    refine am_istore_n [some (am_r 0 0), some (am_i a1), some (am_i v1), none, none, none] dX0_keep_17 rfl rfl (Nat.le_of_ble_eq_true rfl) rfl ?_
    refine am_iconst dX0_keep_18 ic_0 ?_
    refine am_istore_n [some (am_r 0 0), some (am_i a1), some (am_i v1), some (am_i (0 : Int32)), none, none] dX0_keep_19 rfl rfl (Nat.le_of_ble_eq_true rfl) rfl ?_
    refine am_iconst dX0_keep_20 ic_1 ?_
    refine am_istore [some (am_r 0 0), some (am_i a1), some (am_i v1), some (am_i (0 : Int32)), some (am_i (1 : Int32)), none] dX0_keep_21 rfl (Nat.le_of_ble_eq_true rfl) rfl ?_
    refine am_join (β := (Int32 × Int32)) 84 (fun s6 => [none, some (am_i a1), none, some (am_i s6.1), none, none]) (fun _ => []) (fun s6 => M) (fun s6 => ?_) (fun hx5 => ?_)
    · refine am_iload_n dX0_keep_84 rfl rfl ?_
      refine am_if_ne (tgt := 95) dX0_keep_85 rfl ?_ ?_
      · refine am_iload_n dX0_keep_88 rfl rfl ?_
        refine am_cSI lc_X0_95 (kJ0_bitCount G M s6.1) rfl rfl rfl rfl rfl dX0_keep_89 (fun v14 => ?_)
        refine am_goto (tgt := 96) dX0_keep_92 rfl ?_
        exact am_iret dX0_keep_96 rfl rfl
      · refine am_iload_n dX0_keep_95 rfl rfl ?_
        exact am_iret dX0_keep_96 rfl rfl
    refine am_loop (σ := (Int32 × Int32)) (ls' := fun s2 => [some (am_r 0 0), some (am_i a1), some (am_i v1), some (am_i s2.1), some (am_i s2.2), none]) (st' := fun _ => []) (M' := fun s2 => M) (fun rec3 hr4 s2 => ?_) _ _
    unfold fX0_keep_L23
    refine am_iload dX0_keep_23 rfl ?_
    refine am_iload_n dX0_keep_25 rfl rfl ?_
    refine am_icmp_gtB (tgt := 84) dX0_keep_26 rfl ?_ ?_
    · exact am_dr (hx5 (s2.1, s2.2)) (And.intro rfl (And.intro rfl trivial))
    · refine am_iload dX0_keep_29 rfl ?_
      refine am_iload_n dX0_keep_31 rfl rfl ?_
      refine am_iconst dX0_keep_32 ic_m1 ?_
      refine am_ixor dX0_keep_33 ?_
      refine am_iand dX0_keep_34 ?_
      refine am_as ?_
      refine am_join (β := Int32) 55 (fun x7 => [some (am_r 0 0), some (am_i a1), some (am_i v1), some (am_i s2.1), some (am_i s2.2), none]) (fun x7 => [am_i x7]) (fun x7 => M) (fun x7 => ?_) (fun hm8 => ?_)
      · refine am_istore [some (am_r 0 0), some (am_i a1), some (am_i v1), some (am_i s2.1), some (am_i s2.2), some (am_i x7)] dX0_keep_55 rfl (Nat.le_of_ble_eq_true rfl) rfl ?_
        refine am_iload dX0_keep_57 rfl ?_
        refine am_as ?_
        refine am_join (β := Int32) 77 (fun x11 => [some (am_r 0 0), some (am_i a1), some (am_i v1), some (am_i s2.1), some (am_i s2.2), some (am_i x7)]) (fun x11 => [am_i x11]) (fun x11 => M) (fun x11 => ?_) (fun hm12 => ?_)
        · refine am_istore_n [some (am_r 0 0), some (am_i a1), some (am_i v1), some (am_i x11), some (am_i s2.2), some (am_i x7)] dX0_keep_77 rfl rfl (Nat.le_of_ble_eq_true rfl) rfl ?_
          refine am_iinc [some (am_r 0 0), some (am_i a1), some (am_i v1), some (am_i x11), some (am_i (s2.2 + 1)), some (am_i x7)] dX0_keep_78 rfl ic_1 rfl (Nat.le_of_ble_eq_true rfl) rfl ?_
          refine am_goto (tgt := 23) dX0_keep_81 rfl ?_
          exact am_dr (hr4 (x11, (s2.2 + 1))) (And.intro rfl (And.intro rfl (And.intro rfl (And.intro rfl (And.intro rfl trivial)))))
        refine am_if_eqB (tgt := 76) dX0_keep_59 rfl ?_ ?_
        · refine am_iload_n dX0_keep_76 rfl rfl ?_
          exact hm12 s2.1
        · refine am_aload_n dX0_keep_62 rfl rfl ?_
          refine am_iload dX0_keep_63 rfl ?_
          refine am_as ?_
          refine am_cVI (as' := [am_i s2.2]) lc_X0_245 rfl (kX0_isKept G M s2.2) rfl rfl rfl rfl rfl rfl dX0_keep_65 (fun v13 => ?_)
          refine am_if_eqB (tgt := 76) dX0_keep_68 rfl ?_ ?_
          · refine am_iload_n dX0_keep_76 rfl rfl ?_
            exact hm12 s2.1
          · refine am_iload dX0_keep_71 rfl ?_
            refine am_goto (tgt := 77) dX0_keep_73 rfl ?_
            exact hm12 s2.2
      refine am_if_neB (tgt := 54) dX0_keep_35 rfl ?_ ?_
      · refine am_iload dX0_keep_38 rfl ?_
        refine am_as ?_
        refine am_cSI lc_X0_95 (kJ0_bitCount G M s2.2) rfl rfl rfl rfl rfl dX0_keep_40 (fun v9 => ?_)
        refine am_iload_n dX0_keep_43 rfl rfl ?_
        refine am_as ?_
        refine am_cSI lc_X0_95 (kJ0_bitCount G M s2.1) rfl rfl rfl rfl rfl dX0_keep_44 (fun v10 => ?_)
        refine am_icmp_leB (tgt := 54) dX0_keep_47 rfl ?_ ?_
        · refine am_iconst dX0_keep_54 ic_0 ?_
          exact hm8 (0 : Int32)
        · refine am_iconst dX0_keep_50 ic_1 ?_
          refine am_goto (tgt := 55) dX0_keep_51 rfl ?_
          exact hm8 (1 : Int32)
      · refine am_iconst dX0_keep_54 ic_0 ?_
        exact hm8 (0 : Int32)
def fX0_cut_L4 (M : am_M) (rec1 : (Int32 × Int32) → Option (Int32 × Int32)) (s2 : (Int32 × Int32)) : Option (Int32 × Int32) :=
(if (8 : Int32) ≤ s2.2 then
some (s2.1, s2.2)
 else
(Option.bind (if (fX1_isThere (M 2) s2.2) = 0 then
some (0 : Int32)
 else
(Option.bind (am_rd (M 2 10) 8 s2.2) fun v3 =>
(Option.bind (fX0_farIn M (fX0_open M) v3 (0 : Int32)) fun v4 =>
(if 0 ≤ v4 then
some (0 : Int32)
 else
some ((1 : Int32) <<< (s2.2 &&& 31)))))) fun (x5 : Int32) =>
rec1 ((s2.1 ||| x5), (s2.2 + 1))))
def fX0_cut (M : am_M) : Option Int32 :=
(Option.bind (am_it (fX0_cut_L4 M) am_fuel ((0 : Int32), (0 : Int32))) fun (s5 : (Int32 × Int32)) =>
some s5.1)
set_option maxHeartbeats 4000000 in
theorem kX0_cut (G : am_G) (M : am_M)  : am_C G 3 mX0_cut [am_r 0 0] M (fun r => (some (am_i r), M)) (fX0_cut M) := by
  refine am_met (nL := 3) (ls0 := [some (am_r 0 0), none, none]) (by decide) rfl (Nat.le_of_ble_eq_true rfl) (And.intro rfl trivial) ?_
  unfold fX0_cut
  refine am_iconst dX0_cut_0 ic_0 ?_
  refine am_istore_n [some (am_r 0 0), some (am_i (0 : Int32)), none] dX0_cut_1 rfl rfl (Nat.le_of_ble_eq_true rfl) rfl ?_
  refine am_iconst dX0_cut_2 ic_0 ?_
  refine am_istore_n [some (am_r 0 0), some (am_i (0 : Int32)), some (am_i (0 : Int32))] dX0_cut_3 rfl rfl (Nat.le_of_ble_eq_true rfl) rfl ?_
  refine am_join (β := (Int32 × Int32)) 58 (fun s5 => [none, some (am_i s5.1), none]) (fun _ => []) (fun s5 => M) (fun s5 => ?_) (fun hx4 => ?_)
  · refine am_iload_n dX0_cut_58 rfl rfl ?_
    exact am_iret dX0_cut_59 rfl rfl
  refine am_loop (σ := (Int32 × Int32)) (ls' := fun s1 => [some (am_r 0 0), some (am_i s1.1), some (am_i s1.2)]) (st' := fun _ => []) (M' := fun s1 => M) (fun rec2 hr3 s1 => ?_) _ _
  unfold fX0_cut_L4
  refine am_iload_n dX0_cut_4 rfl rfl ?_
  refine am_bipush dX0_cut_5 bp_8 ?_
  refine am_icmp_geB (tgt := 58) dX0_cut_7 rfl ?_ ?_
  · exact am_dr (hx4 (s1.1, s1.2)) (And.intro rfl trivial)
  · refine am_iload_n dX0_cut_10 rfl rfl ?_
    refine am_aload_n dX0_cut_11 rfl rfl ?_
    refine am_getO (o2 := 2) lf_X0_38 rfl (by decide) dX0_cut_12 ?_
    refine am_iload_n dX0_cut_15 rfl rfl ?_
    refine am_cVT (as' := [am_i s1.2]) lc_X0_82 rfl (kX1_isThere G M 0 s1.2) rfl rfl rfl rfl rfl rfl dX0_cut_16 ?_
    refine am_as ?_
    refine am_join (β := Int32) 50 (fun x6 => [some (am_r 0 0), some (am_i s1.1), some (am_i s1.2)]) (fun x6 => [am_i x6, am_i s1.1]) (fun x6 => M) (fun x6 => ?_) (fun hm7 => ?_)
    · refine am_ior dX0_cut_50 ?_
      refine am_istore_n [some (am_r 0 0), some (am_i (s1.1 ||| x6)), some (am_i s1.2)] dX0_cut_51 rfl rfl (Nat.le_of_ble_eq_true rfl) rfl ?_
      refine am_iinc [some (am_r 0 0), some (am_i (s1.1 ||| x6)), some (am_i (s1.2 + 1))] dX0_cut_52 rfl ic_1 rfl (Nat.le_of_ble_eq_true rfl) rfl ?_
      refine am_goto (tgt := 4) dX0_cut_55 rfl ?_
      exact hr3 ((s1.1 ||| x6), (s1.2 + 1))
    refine am_if_eqB (tgt := 49) dX0_cut_19 rfl ?_ ?_
    · refine am_iconst dX0_cut_49 ic_0 ?_
      exact hm7 (0 : Int32)
    · refine am_aload_n dX0_cut_22 rfl rfl ?_
      refine am_aload_n dX0_cut_23 rfl rfl ?_
      refine am_cVT (as' := []) lc_X0_228 rfl (kX0_open G M) rfl rfl rfl rfl rfl rfl dX0_cut_24 ?_
      refine am_aload_n dX0_cut_27 rfl rfl ?_
      refine am_getO (o2 := 2) lf_X0_38 rfl (by decide) dX0_cut_28 ?_
      refine am_getA lf_X0_127 rfl rfl dX0_cut_31 ?_
      refine am_iload_n dX0_cut_34 rfl rfl ?_
      refine am_as ?_
      refine am_iald (β := Unit) rfl dX0_cut_35 (fun v8 => ?_)
      refine am_iconst dX0_cut_36 ic_0 ?_
      refine am_as ?_
      refine am_cVI (as' := [am_i (fX0_open M), am_i v8, am_i (0 : Int32)]) lc_X0_231 rfl (kX0_farIn G M (fX0_open M) v8 (0 : Int32)) rfl rfl rfl rfl rfl rfl dX0_cut_37 (fun v9 => ?_)
      refine am_if_geB (tgt := 49) dX0_cut_40 rfl ?_ ?_
      · refine am_iconst dX0_cut_49 ic_0 ?_
        exact hm7 (0 : Int32)
      · refine am_iconst dX0_cut_43 ic_1 ?_
        refine am_iload_n dX0_cut_44 rfl rfl ?_
        refine am_ishl dX0_cut_45 ?_
        refine am_goto (tgt := 50) dX0_cut_46 rfl ?_
        exact hm7 ((1 : Int32) <<< (s1.2 &&& 31))
def fX0_digit (a0 : Int32) (a1 : Int32) : Int32 :=
(if a1 = 0 then
(a0 / (100 : Int32))
 else
(if a1 = (1 : Int32) then
(jv_rem (a0 / (10 : Int32)) (10 : Int32))
 else
(jv_rem a0 (10 : Int32))))
set_option maxHeartbeats 4000000 in
theorem kX0_digit (G : am_G) (M : am_M) (a0 : Int32) (a1 : Int32) : am_C G 1 mX0_digit [am_i a0, am_i a1] M (fun r => (some (am_i r), M)) (some (fX0_digit a0 a1)) := by
  refine am_met (nL := 2) (ls0 := [some (am_i a0), some (am_i a1)]) (by decide) rfl (Nat.le_of_ble_eq_true rfl) (And.intro rfl (And.intro rfl trivial)) ?_
  unfold fX0_digit
  refine am_iload_n dX0_digit_0 rfl rfl ?_
  refine am_if_neS (tgt := 11) dX0_digit_1 rfl ?_ ?_
  · refine am_iload_n dX0_digit_4 rfl rfl ?_
    refine am_bipush dX0_digit_5 bp_100 ?_
    refine am_idiv dX0_digit_7 (by decide) ?_
    refine am_goto (tgt := 30) dX0_digit_8 rfl ?_
    exact am_iret dX0_digit_30 rfl rfl
  · refine am_iload_n dX0_digit_11 rfl rfl ?_
    refine am_iconst dX0_digit_12 ic_1 ?_
    refine am_icmp_neS (tgt := 26) dX0_digit_13 rfl ?_ ?_
    · refine am_iload_n dX0_digit_16 rfl rfl ?_
      refine am_bipush dX0_digit_17 bp_10 ?_
      refine am_idiv dX0_digit_19 (by decide) ?_
      refine am_bipush dX0_digit_20 bp_10 ?_
      refine am_irem dX0_digit_22 (by decide) ?_
      refine am_goto (tgt := 30) dX0_digit_23 rfl ?_
      exact am_iret dX0_digit_30 rfl rfl
    · refine am_iload_n dX0_digit_26 rfl rfl ?_
      refine am_bipush dX0_digit_27 bp_10 ?_
      refine am_irem dX0_digit_29 (by decide) ?_
      exact am_iret dX0_digit_30 rfl rfl
def fX0_restsThen_L5 (M : am_M) (a1 : Int32) (a2 : Int32) (rec1 : (Int32 × Int32) → Option (Int32 × Int32)) (s2 : (Int32 × Int32)) : Option (Int32 × Int32) :=
(if (3 : Int32) ≤ s2.2 then
some (s2.1, s2.2)
 else
(Option.bind (am_rd (M 0 14) 3 a2) fun v3 =>
(Option.bind (some (jv_max (0 : Int32) ((fX0_digit a1 s2.2) - v3))) fun v4 =>
(Option.bind (if s2.2 = a2 then
(Option.bind (am_rd (M 0 15) 3 a2) fun v5 =>
some v5)
 else
some v4) fun (x6 : Int32) =>
rec1 ((((10 : Int32) * s2.1) + x6), (s2.2 + 1))))))
def fX0_restsThen (M : am_M) (a1 : Int32) (a2 : Int32) : Option Int32 :=
(Option.bind (am_it (fX0_restsThen_L5 M a1 a2) am_fuel ((0 : Int32), (0 : Int32))) fun (s5 : (Int32 × Int32)) =>
some s5.1)
set_option maxHeartbeats 4000000 in
theorem kX0_restsThen (G : am_G) (M : am_M) (a1 : Int32) (a2 : Int32) : am_C G 2 mX0_restsThen [am_r 0 0, am_i a1, am_i a2] M (fun r => (some (am_i r), M)) (fX0_restsThen M a1 a2) := by
  refine am_met (nL := 6) (ls0 := [some (am_r 0 0), some (am_i a1), some (am_i a2), none, none, none]) (by decide) rfl (Nat.le_of_ble_eq_true rfl) (And.intro rfl (And.intro rfl (And.intro rfl trivial))) ?_
  unfold fX0_restsThen
  refine am_iconst dX0_restsThen_0 ic_0 ?_
  refine am_istore_n [some (am_r 0 0), some (am_i a1), some (am_i a2), some (am_i (0 : Int32)), none, none] dX0_restsThen_1 rfl rfl (Nat.le_of_ble_eq_true rfl) rfl ?_
  refine am_iconst dX0_restsThen_2 ic_0 ?_
  refine am_istore [some (am_r 0 0), some (am_i a1), some (am_i a2), some (am_i (0 : Int32)), some (am_i (0 : Int32)), none] dX0_restsThen_3 rfl (Nat.le_of_ble_eq_true rfl) rfl ?_
  refine am_join (β := (Int32 × Int32)) 59 (fun s5 => [none, none, none, some (am_i s5.1), none, none]) (fun _ => []) (fun s5 => M) (fun s5 => ?_) (fun hx4 => ?_)
  · refine am_iload_n dX0_restsThen_59 rfl rfl ?_
    exact am_iret dX0_restsThen_60 rfl rfl
  refine am_loop (σ := (Int32 × Int32)) (ls' := fun s1 => [some (am_r 0 0), some (am_i a1), some (am_i a2), some (am_i s1.1), some (am_i s1.2), none]) (st' := fun _ => []) (M' := fun s1 => M) (fun rec2 hr3 s1 => ?_) _ _
  unfold fX0_restsThen_L5
  refine am_iload dX0_restsThen_5 rfl ?_
  refine am_iconst dX0_restsThen_7 ic_3 ?_
  refine am_icmp_geB (tgt := 59) dX0_restsThen_8 rfl ?_ ?_
  · exact am_dr (hx4 (s1.1, s1.2)) (And.intro rfl trivial)
  · refine am_iconst dX0_restsThen_11 ic_0 ?_
    refine am_iload_n dX0_restsThen_12 rfl rfl ?_
    refine am_iload dX0_restsThen_13 rfl ?_
    refine am_cST lc_X0_248 (kX0_digit G M a1 s1.2) rfl rfl rfl rfl rfl dX0_restsThen_15 ?_
    refine am_aload_n dX0_restsThen_18 rfl rfl ?_
    refine am_getA lf_X0_66 rfl rfl dX0_restsThen_19 ?_
    refine am_iload_n dX0_restsThen_22 rfl rfl ?_
    refine am_as ?_
    refine am_iald (β := Unit) rfl dX0_restsThen_23 (fun v6 => ?_)
    refine am_isub dX0_restsThen_24 ?_
    refine am_mmax q472 rfl rfl dX0_restsThen_25 ?_
    refine am_as ?_
    refine am_name (fun v7 => ?_)
    refine am_istore [some (am_r 0 0), some (am_i a1), some (am_i a2), some (am_i s1.1), some (am_i s1.2), some (am_i v7)] dX0_restsThen_28 rfl (Nat.le_of_ble_eq_true rfl) rfl ?_
    refine am_bipush dX0_restsThen_30 bp_10 ?_
    refine am_iload_n dX0_restsThen_32 rfl rfl ?_
    refine am_imul dX0_restsThen_33 ?_
    refine am_iload dX0_restsThen_34 rfl ?_
    refine am_iload_n dX0_restsThen_36 rfl rfl ?_
    refine am_as ?_
    refine am_join (β := Int32) 51 (fun x8 => [some (am_r 0 0), some (am_i a1), some (am_i a2), some (am_i s1.1), some (am_i s1.2), some (am_i v7)]) (fun x8 => [am_i x8, am_i ((10 : Int32) * s1.1)]) (fun x8 => M) (fun x8 => ?_) (fun hm9 => ?_)
    · refine am_iadd dX0_restsThen_51 ?_
      refine am_istore_n [some (am_r 0 0), some (am_i a1), some (am_i a2), some (am_i (((10 : Int32) * s1.1) + x8)), some (am_i s1.2), some (am_i v7)] dX0_restsThen_52 rfl rfl (Nat.le_of_ble_eq_true rfl) rfl ?_
      refine am_iinc [some (am_r 0 0), some (am_i a1), some (am_i a2), some (am_i (((10 : Int32) * s1.1) + x8)), some (am_i (s1.2 + 1)), some (am_i v7)] dX0_restsThen_53 rfl ic_1 rfl (Nat.le_of_ble_eq_true rfl) rfl ?_
      refine am_goto (tgt := 5) dX0_restsThen_56 rfl ?_
      exact am_dr (hr3 ((((10 : Int32) * s1.1) + x8), (s1.2 + 1))) (And.intro rfl (And.intro rfl (And.intro rfl (And.intro rfl (And.intro rfl trivial)))))
    refine am_icmp_neB (tgt := 49) dX0_restsThen_37 rfl ?_ ?_
    · refine am_aload_n dX0_restsThen_40 rfl rfl ?_
      refine am_getA lf_X0_69 rfl rfl dX0_restsThen_41 ?_
      refine am_iload_n dX0_restsThen_44 rfl rfl ?_
      refine am_as ?_
      refine am_iald (β := Unit) rfl dX0_restsThen_45 (fun v10 => ?_)
      refine am_goto (tgt := 51) dX0_restsThen_46 rfl ?_
      exact hm9 v10
    · refine am_iload dX0_restsThen_49 rfl ?_
      exact hm9 v7
def fX0_beatsBy (M : am_M) (a1 : Int32) (a2 : Int32) : Option Int32 :=
(if (fX0_digit a1 a2) ≤ 0 then
(Option.bind (am_rd (M 0 14) 3 a2) fun v1 =>
(Option.bind (fX0_restsThen M a1 a2) fun v2 =>
(Option.bind (am_rd (M 0 13) 1000 v2) fun v3 =>
some (jv_min (99 : Int32) (v1 + v3)))))
 else
some (0 : Int32))
set_option maxHeartbeats 4000000 in
theorem kX0_beatsBy (G : am_G) (M : am_M) (a1 : Int32) (a2 : Int32) : am_C G 3 mX0_beatsBy [am_r 0 0, am_i a1, am_i a2] M (fun r => (some (am_i r), M)) (fX0_beatsBy M a1 a2) := by
  refine am_met (nL := 3) (ls0 := [some (am_r 0 0), some (am_i a1), some (am_i a2)]) (by decide) rfl (Nat.le_of_ble_eq_true rfl) (And.intro rfl (And.intro rfl (And.intro rfl trivial))) ?_
  unfold fX0_beatsBy
  refine am_iload_n dX0_beatsBy_0 rfl rfl ?_
  refine am_iload_n dX0_beatsBy_1 rfl rfl ?_
  refine am_cST lc_X0_248 (kX0_digit G M a1 a2) rfl rfl rfl rfl rfl dX0_beatsBy_2 ?_
  refine am_if_le (tgt := 12) dX0_beatsBy_5 rfl ?_ ?_
  · refine am_bipush dX0_beatsBy_12 bp_99 ?_
    refine am_aload_n dX0_beatsBy_14 rfl rfl ?_
    refine am_getA lf_X0_66 rfl rfl dX0_beatsBy_15 ?_
    refine am_iload_n dX0_beatsBy_18 rfl rfl ?_
    refine am_iald (β := Unit) rfl dX0_beatsBy_19 (fun v1 => ?_)
    refine am_aload_n dX0_beatsBy_20 rfl rfl ?_
    refine am_getA lf_X0_63 rfl rfl dX0_beatsBy_21 ?_
    refine am_aload_n dX0_beatsBy_24 rfl rfl ?_
    refine am_iload_n dX0_beatsBy_25 rfl rfl ?_
    refine am_iload_n dX0_beatsBy_26 rfl rfl ?_
    refine am_cVI (as' := [am_i a1, am_i a2]) lc_X0_255 rfl (kX0_restsThen G M a1 a2) rfl rfl rfl rfl rfl rfl dX0_beatsBy_27 (fun v2 => ?_)
    refine am_iald (β := Unit) rfl dX0_beatsBy_30 (fun v3 => ?_)
    refine am_iadd dX0_beatsBy_31 ?_
    refine am_mmin q473 rfl rfl dX0_beatsBy_32 ?_
    exact am_iret dX0_beatsBy_35 rfl rfl
  · refine am_iconst dX0_beatsBy_8 ic_0 ?_
    refine am_goto (tgt := 35) dX0_beatsBy_9 rfl ?_
    exact am_iret dX0_beatsBy_35 rfl rfl
def fX0_holdOn_L23 (s1 : (Int32 × Int32 × am_M)) (rec2 : (Int32 × Int32) → Option (Int32 × Int32)) (s3 : (Int32 × Int32)) : Option (Int32 × Int32) :=
(if (3 : Int32) ≤ s3.2 then
some (s3.1, s3.2)
 else
(Option.bind (fX0_beatsBy s1.2.2 s1.2.1 s3.2) fun v4 =>
rec2 ((jv_max s3.1 v4), (s3.2 + 1))))
def fX0_holdOn_L4  (rec1 : (Int32 × Int32 × am_M) → Option (Int32 × Int32 × am_M)) (s2 : (Int32 × Int32 × am_M)) : Option (Int32 × Int32 × am_M) :=
(if (1000 : Int32) ≤ s2.2.1 then
some (s2.1, s2.2.1, s2.2.2)
 else
(Option.bind (am_rd ((s2.2.2) 0 13) 1000 s2.2.1) fun v3 =>
(Option.bind (am_it (fX0_holdOn_L23 s2) am_fuel (v3, (0 : Int32))) fun (s4 : (Int32 × Int32)) =>
(Option.bind (am_rd ((s2.2.2) 0 13) 1000 s2.2.1) fun v5 =>
(Option.bind (if s4.1 ≤ v5 then
some (0 : Int32)
 else
some (1 : Int32)) fun (x6 : Int32) =>
(Option.bind (am_wr s2.2.2 0 13 1000 s2.2.1 s4.1) fun M7 =>
rec1 ((s2.1 ||| x6), (s2.2.1 + 1), M7)))))))
def fX0_holdOn (M : am_M) : Option (Int32 × am_M) :=
(Option.bind (am_it fX0_holdOn_L4 am_fuel ((0 : Int32), (0 : Int32), M)) fun (s5 : (Int32 × Int32 × am_M)) =>
(if s5.1 = 0 ∨ s5.1 = 1 then some (s5.1, s5.2.2) else none))
set_option maxHeartbeats 4000000 in
theorem kX0_holdOn (G : am_G) (M : am_M)  : am_C G 4 mX0_holdOn [am_r 0 0] M (fun r => (some (am_i r.1), r.2)) (fX0_holdOn M) := by
  refine am_met (nL := 5) (ls0 := [some (am_r 0 0), none, none, none, none]) (by decide) rfl (Nat.le_of_ble_eq_true rfl) (And.intro rfl trivial) ?_
  unfold fX0_holdOn
  refine am_iconst dX0_holdOn_0 ic_0 ?_
  refine am_istore_n [some (am_r 0 0), some (am_i (0 : Int32)), none, none, none] dX0_holdOn_1 rfl rfl (Nat.le_of_ble_eq_true rfl) rfl ?_
  refine am_iconst dX0_holdOn_2 ic_0 ?_
  refine am_istore_n [some (am_r 0 0), some (am_i (0 : Int32)), some (am_i (0 : Int32)), none, none] dX0_holdOn_3 rfl rfl (Nat.le_of_ble_eq_true rfl) rfl ?_
  refine am_join (β := (Int32 × Int32 × am_M)) 78 (fun s5 => [none, some (am_i s5.1), none, none, none]) (fun _ => []) (fun s5 => s5.2.2) (fun s5 => ?_) (fun hx4 => ?_)
  · refine am_iload_n dX0_holdOn_78 rfl rfl ?_
    refine am_ite (fun h17 => ?_) (fun _ => am_none)
    exact am_zret h17 dX0_holdOn_79 rfl rfl
  refine am_loop (σ := (Int32 × Int32 × am_M)) (ls' := fun s1 => [some (am_r 0 0), some (am_i s1.1), some (am_i s1.2.1), none, none]) (st' := fun _ => []) (M' := fun s1 => s1.2.2) (fun rec2 hr3 s1 => ?_) _ _
  unfold fX0_holdOn_L4
  refine am_iload_n dX0_holdOn_4 rfl rfl ?_
  refine am_aload_n dX0_holdOn_5 rfl rfl ?_
  refine am_getA lf_X0_63 rfl rfl dX0_holdOn_6 ?_
  refine am_alen (v := 1000) rfl (by decide) rfl dX0_holdOn_9 ?_
  refine am_icmp_geB (tgt := 78) dX0_holdOn_10 rfl ?_ ?_
  · exact am_dr (hx4 (s1.1, s1.2.1, s1.2.2)) (And.intro rfl trivial)
  · refine am_aload_n dX0_holdOn_13 rfl rfl ?_
    refine am_getA lf_X0_63 rfl rfl dX0_holdOn_14 ?_
    refine am_iload_n dX0_holdOn_17 rfl rfl ?_
    refine am_as ?_
    refine am_iald (β := Unit) rfl dX0_holdOn_18 (fun v6 => ?_)
    refine am_istore_n [some (am_r 0 0), some (am_i s1.1), some (am_i s1.2.1), some (am_i v6), none] dX0_holdOn_19 rfl rfl (Nat.le_of_ble_eq_true rfl) rfl ?_
    refine am_iconst dX0_holdOn_20 ic_0 ?_
    refine am_istore [some (am_r 0 0), some (am_i s1.1), some (am_i s1.2.1), some (am_i v6), some (am_i (0 : Int32))] dX0_holdOn_21 rfl (Nat.le_of_ble_eq_true rfl) rfl ?_
    refine am_as ?_
    refine am_join (β := (Int32 × Int32)) 47 (fun s11 => [some (am_r 0 0), some (am_i s1.1), some (am_i s1.2.1), some (am_i s11.1), none]) (fun _ => []) (fun s11 => s1.2.2) (fun s11 => ?_) (fun hx10 => ?_)
    · refine am_iload_n dX0_holdOn_47 rfl rfl ?_
      refine am_iload_n dX0_holdOn_48 rfl rfl ?_
      refine am_aload_n dX0_holdOn_49 rfl rfl ?_
      refine am_getA lf_X0_63 rfl rfl dX0_holdOn_50 ?_
      refine am_iload_n dX0_holdOn_53 rfl rfl ?_
      refine am_as ?_
      refine am_iald (β := Unit) rfl dX0_holdOn_54 (fun v13 => ?_)
      refine am_as ?_
      refine am_join (β := Int32) 63 (fun x14 => [some (am_r 0 0), some (am_i s1.1), some (am_i s1.2.1), some (am_i s11.1), none]) (fun x14 => [am_i x14, am_i s1.1]) (fun x14 => s1.2.2) (fun x14 => ?_) (fun hm15 => ?_)
      · refine am_ior dX0_holdOn_63 ?_
        refine am_istore_n [some (am_r 0 0), some (am_i (s1.1 ||| x14)), some (am_i s1.2.1), some (am_i s11.1), none] dX0_holdOn_64 rfl rfl (Nat.le_of_ble_eq_true rfl) rfl ?_
        refine am_aload_n dX0_holdOn_65 rfl rfl ?_
        refine am_getA lf_X0_63 rfl rfl dX0_holdOn_66 ?_
        refine am_iload_n dX0_holdOn_69 rfl rfl ?_
        refine am_iload_n dX0_holdOn_70 rfl rfl ?_
        refine am_as ?_
        refine am_iast rfl dX0_holdOn_71 (fun M16 => ?_)
        refine am_iinc [some (am_r 0 0), some (am_i (s1.1 ||| x14)), some (am_i (s1.2.1 + 1)), some (am_i s11.1), none] dX0_holdOn_72 rfl ic_1 rfl (Nat.le_of_ble_eq_true rfl) rfl ?_
        refine am_goto (tgt := 4) dX0_holdOn_75 rfl ?_
        exact am_dr (hr3 ((s1.1 ||| x14), (s1.2.1 + 1), M16)) (And.intro rfl (And.intro rfl (And.intro rfl trivial)))
      refine am_icmp_leB (tgt := 62) dX0_holdOn_55 rfl ?_ ?_
      · refine am_iconst dX0_holdOn_62 ic_0 ?_
        exact hm15 (0 : Int32)
      · refine am_iconst dX0_holdOn_58 ic_1 ?_
        refine am_goto (tgt := 63) dX0_holdOn_59 rfl ?_
        exact hm15 (1 : Int32)
    refine am_loop (σ := (Int32 × Int32)) (ls' := fun s7 => [some (am_r 0 0), some (am_i s1.1), some (am_i s1.2.1), some (am_i s7.1), some (am_i s7.2)]) (st' := fun _ => []) (M' := fun s7 => s1.2.2) (fun rec8 hr9 s7 => ?_) _ _
    unfold fX0_holdOn_L23
    refine am_iload dX0_holdOn_23 rfl ?_
    refine am_iconst dX0_holdOn_25 ic_3 ?_
    refine am_icmp_geB (tgt := 47) dX0_holdOn_26 rfl ?_ ?_
    · exact am_dr (hx10 (s7.1, s7.2)) (And.intro rfl (And.intro rfl (And.intro rfl (And.intro rfl trivial))))
    · refine am_iload_n dX0_holdOn_29 rfl rfl ?_
      refine am_aload_n dX0_holdOn_30 rfl rfl ?_
      refine am_iload_n dX0_holdOn_31 rfl rfl ?_
      refine am_iload dX0_holdOn_32 rfl ?_
      refine am_as ?_
      refine am_cVI (as' := [am_i s1.2.1, am_i s7.2]) lc_X0_261 rfl (kX0_beatsBy G s1.2.2 s1.2.1 s7.2) rfl rfl rfl rfl rfl rfl dX0_holdOn_34 (fun v12 => ?_)
      refine am_mmax q472 rfl rfl dX0_holdOn_37 ?_
      refine am_istore_n [some (am_r 0 0), some (am_i s1.1), some (am_i s1.2.1), some (am_i (jv_max s7.1 v12)), some (am_i s7.2)] dX0_holdOn_40 rfl rfl (Nat.le_of_ble_eq_true rfl) rfl ?_
      refine am_iinc [some (am_r 0 0), some (am_i s1.1), some (am_i s1.2.1), some (am_i (jv_max s7.1 v12)), some (am_i (s7.2 + 1))] dX0_holdOn_41 rfl ic_1 rfl (Nat.le_of_ble_eq_true rfl) rfl ?_
      refine am_goto (tgt := 23) dX0_holdOn_44 rfl ?_
      exact hr9 ((jv_max s7.1 v12), (s7.2 + 1))
def fX0_hold_L139 (s1 : (Int32 × am_M)) (rec2 : Int32 → Option Int32) (s3 : Int32) : Option Int32 :=
(Option.bind (fX0_beatsBy s1.2 (0 : Int32) s3) fun v4 =>
(Option.bind (am_rd ((s1.2) 0 13) 1000 (0 : Int32)) fun v5 =>
(if v5 ≤ v4 then
some s3
 else
rec2 (s3 + 1))))
def fX0_hold_L122  (rec1 : (Int32 × am_M) → Option (Int32 × am_M)) (s2 : (Int32 × am_M)) : Option (Int32 × am_M) :=
(if s2.1 = 0 then
some (s2.1, s2.2)
 else
(Option.bind (fX0_holdOn s2.2) fun r3 =>
rec1 (r3.1, r3.2)))
def fX0_hold_L43 (a1 : Int32) (a2 : Int32) (rec1 : (Int32 × Int32 × am_M) → Option (Int32 × Int32 × am_M)) (s2 : (Int32 × Int32 × am_M)) : Option (Int32 × Int32 × am_M) :=
(if (3 : Int32) ≤ s2.2.1 then
some (s2.1, s2.2.1, s2.2.2)
 else
(if s2.1 = 0 then
some (s2.1, s2.2.1, s2.2.2)
 else
(Option.bind (am_wr s2.2.2 0 14 3 s2.2.1 (fX0_digit a1 s2.2.1)) fun M3 =>
(Option.bind (am_wr M3 0 15 3 s2.2.1 (fX0_digit a2 s2.2.1)) fun M4 =>
(Option.bind (am_rd (M4 0 14) 3 s2.2.1) fun v5 =>
(Option.bind (if v5 ≤ 0 then
some (0 : Int32)
 else
some (1 : Int32)) fun (x6 : Int32) =>
rec1 (x6, (s2.2.1 + 1), M4)))))))
def fX0_hold (M : am_M) (a1 : Int32) (a2 : Int32) (a3 : Int32) : Option (Int32 × am_M) :=
(Option.bind (if (fX0_isIn ((a1).toInt64) (111 : Int64) (999 : Int64)) = 0 then
some (0 : Int32)
 else
(if (fX0_isIn ((a2).toInt64) (0 : Int64) (999 : Int64)) = 0 then
some (0 : Int32)
 else
(if (fX0_isEnd a3) = 0 then
some (0 : Int32)
 else
some (1 : Int32)))) fun (x1 : Int32) =>
(Option.bind (am_it (fX0_hold_L43 a1 a2) am_fuel (x1, (0 : Int32), M)) fun (s7 : (Int32 × Int32 × am_M)) =>
(if s7.1 = 0 then
some ((-2 : Int32), s7.2.2)
 else
(Option.bind (fX0_fill s7.2.2 0 13 1000 (0 : Int32)) fun M13 =>
(Option.bind (am_it fX0_hold_L122 am_fuel ((1 : Int32), M13)) fun (s18 : (Int32 × am_M)) =>
(Option.bind (am_it (fX0_hold_L139 s18) am_fuel (0 : Int32)) fun (s24 : Int32) =>
(if a3 = 0 then
(Option.bind (am_rd ((s18.2) 0 13) 1000 (0 : Int32)) fun v27 =>
some (v27, s18.2))
 else
some (s24, s18.2))))))))
set_option maxHeartbeats 4000000 in
theorem kX0_hold (G : am_G) (M : am_M) (a1 : Int32) (a2 : Int32) (a3 : Int32) : am_C G 5 mX0_hold [am_r 0 0, am_i a1, am_i a2, am_i a3] M (fun r => (some (am_i r.1), r.2)) (fX0_hold M a1 a2 a3) := by
  refine am_met (nL := 7) (ls0 := [some (am_r 0 0), some (am_i a1), some (am_i a2), some (am_i a3), none, none, none]) (by decide) rfl (Nat.le_of_ble_eq_true rfl) (And.intro rfl (And.intro rfl (And.intro rfl (And.intro rfl trivial)))) ?_
  unfold fX0_hold
  refine am_iload_n dX0_hold_0 rfl rfl ?_
  refine am_i2l dX0_hold_1 ?_
  refine am_ldc2 dX0_hold_2 q454 ?_
  refine am_ldc2 dX0_hold_5 q455 ?_
  refine am_cST lc_X0_3 (kX0_isIn G M ((a1).toInt64) (111 : Int64) (999 : Int64)) rfl rfl rfl rfl rfl dX0_hold_8 ?_
  refine am_join (β := Int32) 38 (fun x1 => [some (am_r 0 0), some (am_i a1), some (am_i a2), some (am_i a3), none, none, none]) (fun x1 => [am_i x1]) (fun x1 => M) (fun x1 => ?_) (fun hm2 => ?_)
  · refine am_istore [some (am_r 0 0), some (am_i a1), some (am_i a2), some (am_i a3), some (am_i x1), none, none] dX0_hold_38 rfl (Nat.le_of_ble_eq_true rfl) rfl ?_
    refine am_iconst dX0_hold_40 ic_0 ?_
    refine am_istore [some (am_r 0 0), some (am_i a1), some (am_i a2), some (am_i a3), some (am_i x1), some (am_i (0 : Int32)), none] dX0_hold_41 rfl (Nat.le_of_ble_eq_true rfl) rfl ?_
    refine am_join (β := (Int32 × Int32 × am_M)) 103 (fun s7 => [some (am_r 0 0), none, none, some (am_i a3), some (am_i s7.1), none, none]) (fun _ => []) (fun s7 => s7.2.2) (fun s7 => ?_) (fun hx6 => ?_)
    · refine am_iload dX0_hold_103 rfl ?_
      refine am_if_ne (tgt := 111) dX0_hold_105 rfl ?_ ?_
      · refine am_bipush dX0_hold_108 bp_m2 ?_
        exact am_iret dX0_hold_110 rfl rfl
      · refine am_aload_n dX0_hold_111 rfl rfl ?_
        refine am_getA lf_X0_63 rfl rfl dX0_hold_112 ?_
        refine am_iconst dX0_hold_115 ic_0 ?_
        refine am_cSU lc_X0_268 (kX0_fill G s7.2.2 0 13 1000 (0 : Int32) rfl) rfl rfl rfl rfl rfl dX0_hold_116 (fun M13 => ?_)
        refine am_iconst dX0_hold_119 ic_1 ?_
        refine am_istore [some (am_r 0 0), none, none, some (am_i a3), some (am_i s7.1), some (am_i (1 : Int32)), none] dX0_hold_120 rfl (Nat.le_of_ble_eq_true rfl) rfl ?_
        refine am_join (β := (Int32 × am_M)) 136 (fun s18 => [some (am_r 0 0), none, none, some (am_i a3), none, none, none]) (fun _ => []) (fun s18 => s18.2) (fun s18 => ?_) (fun hx17 => ?_)
        · refine am_iconst dX0_hold_136 ic_0 ?_
          refine am_istore [some (am_r 0 0), none, none, some (am_i a3), none, none, some (am_i (0 : Int32))] dX0_hold_137 rfl (Nat.le_of_ble_eq_true rfl) rfl ?_
          refine am_join (β := Int32) 161 (fun s24 => [some (am_r 0 0), none, none, some (am_i a3), none, none, some (am_i s24)]) (fun _ => []) (fun s24 => s18.2) (fun s24 => ?_) (fun hx23 => ?_)
          · refine am_iload_n dX0_hold_161 rfl rfl ?_
            refine am_if_ne (tgt := 174) dX0_hold_162 rfl ?_ ?_
            · refine am_aload_n dX0_hold_165 rfl rfl ?_
              refine am_getA lf_X0_63 rfl rfl dX0_hold_166 ?_
              refine am_iconst dX0_hold_169 ic_0 ?_
              refine am_iald (β := Unit) rfl dX0_hold_170 (fun v27 => ?_)
              refine am_goto (tgt := 176) dX0_hold_171 rfl ?_
              exact am_iret dX0_hold_176 rfl rfl
            · refine am_iload dX0_hold_174 rfl ?_
              exact am_iret dX0_hold_176 rfl rfl
          refine am_loop (σ := Int32) (ls' := fun s20 => [some (am_r 0 0), none, none, some (am_i a3), none, none, some (am_i s20)]) (st' := fun _ => []) (M' := fun s20 => s18.2) (fun rec21 hr22 s20 => ?_) _ _
          unfold fX0_hold_L139
          refine am_aload_n dX0_hold_139 rfl rfl ?_
          refine am_iconst dX0_hold_140 ic_0 ?_
          refine am_iload dX0_hold_141 rfl ?_
          refine am_as ?_
          refine am_cVI (as' := [am_i (0 : Int32), am_i s20]) lc_X0_261 rfl (kX0_beatsBy G s18.2 (0 : Int32) s20) rfl rfl rfl rfl rfl rfl dX0_hold_143 (fun v25 => ?_)
          refine am_aload_n dX0_hold_146 rfl rfl ?_
          refine am_getA lf_X0_63 rfl rfl dX0_hold_147 ?_
          refine am_iconst dX0_hold_150 ic_0 ?_
          refine am_as ?_
          refine am_iald (β := Unit) rfl dX0_hold_151 (fun v26 => ?_)
          refine am_icmp_geB (tgt := 161) dX0_hold_152 rfl ?_ ?_
          · exact hx23 s20
          · refine am_iinc [some (am_r 0 0), none, none, some (am_i a3), none, none, some (am_i (s20 + 1))] dX0_hold_155 rfl ic_1 rfl (Nat.le_of_ble_eq_true rfl) rfl ?_
            refine am_goto (tgt := 139) dX0_hold_158 rfl ?_
            exact hr22 (s20 + 1)
        refine am_drop (ls' := [some (am_r 0 0), none, none, some (am_i a3), none, some (am_i (1 : Int32)), none]) (And.intro rfl (And.intro rfl (And.intro rfl trivial))) ?_
        refine am_loop (σ := (Int32 × am_M)) (ls' := fun s14 => [some (am_r 0 0), none, none, some (am_i a3), none, some (am_i s14.1), none]) (st' := fun _ => []) (M' := fun s14 => s14.2) (fun rec15 hr16 s14 => ?_) _ _
        unfold fX0_hold_L122
        refine am_iload dX0_hold_122 rfl ?_
        refine am_if_eqB (tgt := 136) dX0_hold_124 rfl ?_ ?_
        · exact am_dr (hx17 (s14.1, s14.2)) (And.intro rfl (And.intro rfl trivial))
        · refine am_aload_n dX0_hold_127 rfl rfl ?_
          refine am_as ?_
          refine am_cVX (as' := []) lc_X0_272 rfl (kX0_holdOn G s14.2) rfl rfl rfl rfl rfl rfl dX0_hold_128 (fun r19 => ?_)
          refine am_istore [some (am_r 0 0), none, none, some (am_i a3), none, some (am_i r19.1), none] dX0_hold_131 rfl (Nat.le_of_ble_eq_true rfl) rfl ?_
          refine am_goto (tgt := 122) dX0_hold_133 rfl ?_
          exact hr16 (r19.1, r19.2)
    refine am_loop (σ := (Int32 × Int32 × am_M)) (ls' := fun s3 => [some (am_r 0 0), some (am_i a1), some (am_i a2), some (am_i a3), some (am_i s3.1), some (am_i s3.2.1), none]) (st' := fun _ => []) (M' := fun s3 => s3.2.2) (fun rec4 hr5 s3 => ?_) _ _
    unfold fX0_hold_L43
    refine am_iload dX0_hold_43 rfl ?_
    refine am_iconst dX0_hold_45 ic_3 ?_
    refine am_icmp_geB (tgt := 103) dX0_hold_46 rfl ?_ ?_
    · exact am_dr (hx6 (s3.1, s3.2.1, s3.2.2)) (And.intro rfl (And.intro rfl (And.intro rfl trivial)))
    · refine am_iload dX0_hold_49 rfl ?_
      refine am_if_eqB (tgt := 103) dX0_hold_51 rfl ?_ ?_
      · exact am_dr (hx6 (s3.1, s3.2.1, s3.2.2)) (And.intro rfl (And.intro rfl (And.intro rfl trivial)))
      · refine am_aload_n dX0_hold_54 rfl rfl ?_
        refine am_getA lf_X0_66 rfl rfl dX0_hold_55 ?_
        refine am_iload dX0_hold_58 rfl ?_
        refine am_iload_n dX0_hold_60 rfl rfl ?_
        refine am_iload dX0_hold_61 rfl ?_
        refine am_cST lc_X0_248 (kX0_digit G s3.2.2 a1 s3.2.1) rfl rfl rfl rfl rfl dX0_hold_63 ?_
        refine am_as ?_
        refine am_iast rfl dX0_hold_66 (fun M8 => ?_)
        refine am_aload_n dX0_hold_67 rfl rfl ?_
        refine am_getA lf_X0_69 rfl rfl dX0_hold_68 ?_
        refine am_iload dX0_hold_71 rfl ?_
        refine am_iload_n dX0_hold_73 rfl rfl ?_
        refine am_iload dX0_hold_74 rfl ?_
        refine am_cST lc_X0_248 (kX0_digit G M8 a2 s3.2.1) rfl rfl rfl rfl rfl dX0_hold_76 ?_
        refine am_as ?_
        refine am_iast rfl dX0_hold_79 (fun M9 => ?_)
        refine am_aload_n dX0_hold_80 rfl rfl ?_
        refine am_getA lf_X0_66 rfl rfl dX0_hold_81 ?_
        refine am_iload dX0_hold_84 rfl ?_
        refine am_as ?_
        refine am_iald (β := Unit) rfl dX0_hold_86 (fun v10 => ?_)
        refine am_as ?_
        refine am_join (β := Int32) 95 (fun x11 => [some (am_r 0 0), some (am_i a1), some (am_i a2), some (am_i a3), some (am_i s3.1), some (am_i s3.2.1), none]) (fun x11 => [am_i x11]) (fun x11 => M9) (fun x11 => ?_) (fun hm12 => ?_)
        · refine am_istore [some (am_r 0 0), some (am_i a1), some (am_i a2), some (am_i a3), some (am_i x11), some (am_i s3.2.1), none] dX0_hold_95 rfl (Nat.le_of_ble_eq_true rfl) rfl ?_
          refine am_iinc [some (am_r 0 0), some (am_i a1), some (am_i a2), some (am_i a3), some (am_i x11), some (am_i (s3.2.1 + 1)), none] dX0_hold_97 rfl ic_1 rfl (Nat.le_of_ble_eq_true rfl) rfl ?_
          refine am_goto (tgt := 43) dX0_hold_100 rfl ?_
          exact hr5 (x11, (s3.2.1 + 1), M9)
        refine am_if_leB (tgt := 94) dX0_hold_87 rfl ?_ ?_
        · refine am_iconst dX0_hold_94 ic_0 ?_
          exact hm12 (0 : Int32)
        · refine am_iconst dX0_hold_90 ic_1 ?_
          refine am_goto (tgt := 95) dX0_hold_91 rfl ?_
          exact hm12 (1 : Int32)
  refine am_if_eqB (tgt := 37) dX0_hold_11 rfl ?_ ?_
  · refine am_iconst dX0_hold_37 ic_0 ?_
    exact hm2 (0 : Int32)
  · refine am_iload_n dX0_hold_14 rfl rfl ?_
    refine am_i2l dX0_hold_15 ?_
    refine am_lconst (v := 0) dX0_hold_16 rfl ?_
    refine am_ldc2 dX0_hold_17 q455 ?_
    refine am_cST lc_X0_3 (kX0_isIn G M ((a2).toInt64) (0 : Int64) (999 : Int64)) rfl rfl rfl rfl rfl dX0_hold_20 ?_
    refine am_if_eqB (tgt := 37) dX0_hold_23 rfl ?_ ?_
    · refine am_iconst dX0_hold_37 ic_0 ?_
      exact hm2 (0 : Int32)
    · refine am_iload_n dX0_hold_26 rfl rfl ?_
      refine am_cST lc_X0_197 (kX0_isEnd G M a3) rfl rfl rfl rfl rfl dX0_hold_27 ?_
      refine am_if_eqB (tgt := 37) dX0_hold_30 rfl ?_ ?_
      · refine am_iconst dX0_hold_37 ic_0 ?_
        exact hm2 (0 : Int32)
      · refine am_iconst dX0_hold_33 ic_1 ?_
        refine am_goto (tgt := 38) dX0_hold_34 rfl ?_
        exact hm2 (1 : Int32)
def fX0_round_L55 (a1 : Int32) (a2 : Int32) (a3 : Int32) (a4 : Int32) (rec1 : Int32 → Option (Int32 ⊕ Int32)) (s2 : Int32) : Option (Int32 ⊕ Int32) :=
(if (a1 * a3) ≤ s2 then
some (.inr s2)
 else
(if a1 = 0 then none else (if (jv_rem (s2 + a2) a1) = 0 then
(if a3 = 0 then none else (if (jv_rem (s2 + a4) a3) = 0 then
some (.inl s2)
 else
rec1 (s2 + 1)))
 else
rec1 (s2 + 1))))
def fX0_round (M : am_M) (a1 : Int32) (a2 : Int32) (a3 : Int32) (a4 : Int32) : Option Int32 :=
(if (fX0_isIn ((a1).toInt64) (1 : Int64) (99 : Int64)) = 0 then
some (-2 : Int32)
 else
(if (fX0_isIn ((a2).toInt64) (0 : Int64) (99 : Int64)) = 0 then
some (-2 : Int32)
 else
(if (fX0_isIn ((a3).toInt64) (1 : Int64) (99 : Int64)) = 0 then
some (-2 : Int32)
 else
(if (fX0_isIn ((a4).toInt64) (0 : Int64) (99 : Int64)) = 0 then
some (-2 : Int32)
 else
(Option.bind (am_it (fX0_round_L55 a1 a2 a3 a4) am_fuel (0 : Int32)) (Sum.elim some fun (s5 : Int32) =>
some (-6 : Int32)))))))
set_option maxHeartbeats 4000000 in
theorem kX0_round (G : am_G) (M : am_M) (a1 : Int32) (a2 : Int32) (a3 : Int32) (a4 : Int32) : am_C G 2 mX0_round [am_r 0 0, am_i a1, am_i a2, am_i a3, am_i a4] M (fun r => (some (am_i r), M)) (fX0_round M a1 a2 a3 a4) := by
  refine am_met (nL := 6) (ls0 := [some (am_r 0 0), some (am_i a1), some (am_i a2), some (am_i a3), some (am_i a4), none]) (by decide) rfl (Nat.le_of_ble_eq_true rfl) (And.intro rfl (And.intro rfl (And.intro rfl (And.intro rfl (And.intro rfl trivial))))) ?_
  unfold fX0_round
  refine am_iload_n dX0_round_0 rfl rfl ?_
  refine am_i2l dX0_round_1 ?_
  refine am_lconst (v := 1) dX0_round_2 rfl ?_
  refine am_ldc2 dX0_round_3 q236 ?_
  refine am_cST lc_X0_3 (kX0_isIn G M ((a1).toInt64) (1 : Int64) (99 : Int64)) rfl rfl rfl rfl rfl dX0_round_6 ?_
  refine am_if_eq (tgt := 49) dX0_round_9 rfl ?_ ?_
  · refine am_bipush dX0_round_49 bp_m2 ?_
    exact am_iret dX0_round_51 rfl rfl
  · refine am_iload_n dX0_round_12 rfl rfl ?_
    refine am_i2l dX0_round_13 ?_
    refine am_lconst (v := 0) dX0_round_14 rfl ?_
    refine am_ldc2 dX0_round_15 q236 ?_
    refine am_cST lc_X0_3 (kX0_isIn G M ((a2).toInt64) (0 : Int64) (99 : Int64)) rfl rfl rfl rfl rfl dX0_round_18 ?_
    refine am_if_eq (tgt := 49) dX0_round_21 rfl ?_ ?_
    · refine am_bipush dX0_round_49 bp_m2 ?_
      exact am_iret dX0_round_51 rfl rfl
    · refine am_iload_n dX0_round_24 rfl rfl ?_
      refine am_i2l dX0_round_25 ?_
      refine am_lconst (v := 1) dX0_round_26 rfl ?_
      refine am_ldc2 dX0_round_27 q236 ?_
      refine am_cST lc_X0_3 (kX0_isIn G M ((a3).toInt64) (1 : Int64) (99 : Int64)) rfl rfl rfl rfl rfl dX0_round_30 ?_
      refine am_if_eq (tgt := 49) dX0_round_33 rfl ?_ ?_
      · refine am_bipush dX0_round_49 bp_m2 ?_
        exact am_iret dX0_round_51 rfl rfl
      · refine am_iload dX0_round_36 rfl ?_
        refine am_i2l dX0_round_38 ?_
        refine am_lconst (v := 0) dX0_round_39 rfl ?_
        refine am_ldc2 dX0_round_40 q236 ?_
        refine am_cST lc_X0_3 (kX0_isIn G M ((a4).toInt64) (0 : Int64) (99 : Int64)) rfl rfl rfl rfl rfl dX0_round_43 ?_
        refine am_if_ne (tgt := 52) dX0_round_46 rfl ?_ ?_
        · refine am_bipush dX0_round_49 bp_m2 ?_
          exact am_iret dX0_round_51 rfl rfl
        · refine am_iconst dX0_round_52 ic_0 ?_
          refine am_istore [some (am_r 0 0), some (am_i a1), some (am_i a2), some (am_i a3), some (am_i a4), some (am_i (0 : Int32))] dX0_round_53 rfl (Nat.le_of_ble_eq_true rfl) rfl ?_
          refine am_joinR (S := Int32) 91 (fun s5 => [none, none, none, none, none, none]) (fun _ => []) (fun s5 => M) (fun s5 => ?_) (fun hx4 => ?_)
          · refine am_bipush dX0_round_91 bp_m6 ?_
            exact am_iret dX0_round_93 rfl rfl
          refine am_drop (ls' := [none, some (am_i a1), some (am_i a2), some (am_i a3), some (am_i a4), some (am_i (0 : Int32))]) (And.intro rfl (And.intro rfl (And.intro rfl (And.intro rfl (And.intro rfl trivial))))) ?_
          refine am_loop (σ := Int32) (ls' := fun s1 => [none, some (am_i a1), some (am_i a2), some (am_i a3), some (am_i a4), some (am_i s1)]) (st' := fun _ => []) (M' := fun s1 => M) (fun rec2 hr3 s1 => ?_) _ _
          unfold fX0_round_L55
          refine am_iload dX0_round_55 rfl ?_
          refine am_iload_n dX0_round_57 rfl rfl ?_
          refine am_iload_n dX0_round_58 rfl rfl ?_
          refine am_imul dX0_round_59 ?_
          refine am_icmp_geB (tgt := 91) dX0_round_60 rfl ?_ ?_
          · exact am_dr (hx4 s1) trivial
          · refine am_iload dX0_round_63 rfl ?_
            refine am_iload_n dX0_round_65 rfl rfl ?_
            refine am_iadd dX0_round_66 ?_
            refine am_iload_n dX0_round_67 rfl rfl ?_
            refine am_grdB (fun h6 => ?_)
            refine am_irem dX0_round_68 h6 ?_
            refine am_if_neB (tgt := 85) dX0_round_69 rfl ?_ ?_
            · refine am_iload dX0_round_72 rfl ?_
              refine am_iload dX0_round_74 rfl ?_
              refine am_iadd dX0_round_76 ?_
              refine am_iload_n dX0_round_77 rfl rfl ?_
              refine am_grdB (fun h7 => ?_)
              refine am_irem dX0_round_78 h7 ?_
              refine am_if_neB (tgt := 85) dX0_round_79 rfl ?_ ?_
              · refine am_iload dX0_round_82 rfl ?_
                show am_R _ _ _ _ _ _ _ _ (some s1)
                exact am_iret dX0_round_84 rfl rfl
              · refine am_iinc [none, some (am_i a1), some (am_i a2), some (am_i a3), some (am_i a4), some (am_i (s1 + 1))] dX0_round_85 rfl ic_1 rfl (Nat.le_of_ble_eq_true rfl) rfl ?_
                refine am_goto (tgt := 55) dX0_round_88 rfl ?_
                exact hr3 (s1 + 1)
            · refine am_iinc [none, some (am_i a1), some (am_i a2), some (am_i a3), some (am_i a4), some (am_i (s1 + 1))] dX0_round_85 rfl ic_1 rfl (Nat.le_of_ble_eq_true rfl) rfl ?_
              refine am_goto (tgt := 55) dX0_round_88 rfl ?_
              exact hr3 (s1 + 1)
def fX0_heard (M : am_M) (a1 : Int32) (a2 : Int32) : Option (Int32 × am_M) :=
(if (fX0_isGallery a1) = 0 then
some ((-1 : Int32), M)
 else
(if (fX0_isIn ((a2).toInt64) (-1 : Int64) (23 : Int64)) = 0 then
some ((-2 : Int32), M)
 else
(if (M 2 15 0) = (8 : Int32) then
some ((-4 : Int32), M)
 else
(Option.bind (am_wr M 2 13 8 (M 2 15 0) a1) fun M1 =>
(Option.bind (am_wr M1 2 14 8 (M1 2 15 0) a2) fun M2 =>
some (((am_put M2 2 15 ((M2 2 15 0) + (1 : Int32))) 2 15 0), (am_put M2 2 15 ((M2 2 15 0) + (1 : Int32)))))))))
set_option maxHeartbeats 4000000 in
theorem kX0_heard (G : am_G) (M : am_M) (a1 : Int32) (a2 : Int32) : am_C G 3 mX0_heard [am_r 0 0, am_i a1, am_i a2] M (fun r => (some (am_i r.1), r.2)) (fX0_heard M a1 a2) := by
  refine am_met (nL := 3) (ls0 := [some (am_r 0 0), some (am_i a1), some (am_i a2)]) (by decide) rfl (Nat.le_of_ble_eq_true rfl) (And.intro rfl (And.intro rfl (And.intro rfl trivial))) ?_
  unfold fX0_heard
  refine am_iload_n dX0_heard_0 rfl rfl ?_
  refine am_cST lc_X0_85 (kX0_isGallery G M a1) rfl rfl rfl rfl rfl dX0_heard_1 ?_
  refine am_if_ne (tgt := 9) dX0_heard_4 rfl ?_ ?_
  · refine am_iconst dX0_heard_7 ic_m1 ?_
    exact am_iret dX0_heard_8 rfl rfl
  · refine am_iload_n dX0_heard_9 rfl rfl ?_
    refine am_i2l dX0_heard_10 ?_
    refine am_ldc2 dX0_heard_11 q482 ?_
    refine am_ldc2 dX0_heard_14 q235 ?_
    refine am_cST lc_X0_3 (kX0_isIn G M ((a2).toInt64) (-1 : Int64) (23 : Int64)) rfl rfl rfl rfl rfl dX0_heard_17 ?_
    refine am_if_ne (tgt := 26) dX0_heard_20 rfl ?_ ?_
    · refine am_bipush dX0_heard_23 bp_m2 ?_
      exact am_iret dX0_heard_25 rfl rfl
    · refine am_aload_n dX0_heard_26 rfl rfl ?_
      refine am_getO (o2 := 2) lf_X0_38 rfl (by decide) dX0_heard_27 ?_
      refine am_get lf_X0_277 rfl rfl dX0_heard_30 ?_
      refine am_bipush dX0_heard_33 bp_8 ?_
      refine am_icmp_ne (tgt := 41) dX0_heard_35 rfl ?_ ?_
      · refine am_bipush dX0_heard_38 bp_m4 ?_
        exact am_iret dX0_heard_40 rfl rfl
      · refine am_aload_n dX0_heard_41 rfl rfl ?_
        refine am_getO (o2 := 2) lf_X0_38 rfl (by decide) dX0_heard_42 ?_
        refine am_getA lf_X0_280 rfl rfl dX0_heard_45 ?_
        refine am_aload_n dX0_heard_48 rfl rfl ?_
        refine am_getO (o2 := 2) lf_X0_38 rfl (by decide) dX0_heard_49 ?_
        refine am_get lf_X0_277 rfl rfl dX0_heard_52 ?_
        refine am_iload_n dX0_heard_55 rfl rfl ?_
        refine am_iast rfl dX0_heard_56 (fun M1 => ?_)
        refine am_aload_n dX0_heard_57 rfl rfl ?_
        refine am_getO (o2 := 2) lf_X0_38 rfl (by decide) dX0_heard_58 ?_
        refine am_getA lf_X0_283 rfl rfl dX0_heard_61 ?_
        refine am_aload_n dX0_heard_64 rfl rfl ?_
        refine am_getO (o2 := 2) lf_X0_38 rfl (by decide) dX0_heard_65 ?_
        refine am_get lf_X0_277 rfl rfl dX0_heard_68 ?_
        refine am_iload_n dX0_heard_71 rfl rfl ?_
        refine am_iast rfl dX0_heard_72 (fun M2 => ?_)
        refine am_aload_n dX0_heard_73 rfl rfl ?_
        refine am_getO (o2 := 2) lf_X0_38 rfl (by decide) dX0_heard_74 ?_
        refine am_dup dX0_heard_77 rfl ?_
        refine am_get lf_X0_277 rfl rfl dX0_heard_78 ?_
        refine am_iconst dX0_heard_81 ic_1 ?_
        refine am_iadd dX0_heard_82 ?_
        refine am_putf lf_X0_277 rfl rfl dX0_heard_83 ?_
        refine am_aload_n dX0_heard_86 rfl rfl ?_
        refine am_getO (o2 := 2) lf_X0_38 rfl (by decide) dX0_heard_87 ?_
        refine am_get lf_X0_277 rfl rfl dX0_heard_90 ?_
        exact am_iret dX0_heard_93 rfl rfl
def fX0_forget (M : am_M) : Option (Int32 × am_M) :=
some ((M 2 15 0), (am_put M 2 15 (0 : Int32)))
set_option maxHeartbeats 4000000 in
theorem kX0_forget (G : am_G) (M : am_M)  : am_C G 1 mX0_forget [am_r 0 0] M (fun r => (some (am_i r.1), r.2)) (fX0_forget M) := by
  refine am_met (nL := 2) (ls0 := [some (am_r 0 0), none]) (by decide) rfl (Nat.le_of_ble_eq_true rfl) (And.intro rfl trivial) ?_
  unfold fX0_forget
  refine am_aload_n dX0_forget_0 rfl rfl ?_
  refine am_getO (o2 := 2) lf_X0_38 rfl (by decide) dX0_forget_1 ?_
  refine am_get lf_X0_277 rfl rfl dX0_forget_4 ?_
  refine am_istore_n [some (am_r 0 0), some (am_i (M 2 15 0))] dX0_forget_7 rfl rfl (Nat.le_of_ble_eq_true rfl) rfl ?_
  refine am_aload_n dX0_forget_8 rfl rfl ?_
  refine am_getO (o2 := 2) lf_X0_38 rfl (by decide) dX0_forget_9 ?_
  refine am_iconst dX0_forget_12 ic_0 ?_
  refine am_putf lf_X0_277 rfl rfl dX0_forget_13 ?_
  refine am_iload_n dX0_forget_16 rfl rfl ?_
  exact am_iret dX0_forget_17 rfl rfl
def fX0_findFar_L2  (rec1 : (Int32 × am_M) → Option (Int32 × am_M)) (s2 : (Int32 × am_M)) : Option (Int32 × am_M) :=
(if (100 : Int32) ≤ s2.1 then
some (s2.1, s2.2)
 else
(Option.bind (fX0_farIn s2.2 (fX0_open s2.2) (s2.1 / (10 : Int32)) (jv_rem s2.1 (10 : Int32))) fun v3 =>
(Option.bind (am_wr s2.2 0 16 100 s2.1 v3) fun M4 =>
rec1 ((s2.1 + 1), M4))))
def fX0_findFar (M : am_M) : Option am_M :=
(Option.bind (am_it fX0_findFar_L2 am_fuel ((0 : Int32), M)) fun (s5 : (Int32 × am_M)) =>
some s5.2)
set_option maxHeartbeats 4000000 in
theorem kX0_findFar (G : am_G) (M : am_M)  : am_C G 3 mX0_findFar [am_r 0 0] M (fun r => (none, r)) (fX0_findFar M) := by
  refine am_met (nL := 2) (ls0 := [some (am_r 0 0), none]) (by decide) rfl (Nat.le_of_ble_eq_true rfl) (And.intro rfl trivial) ?_
  unfold fX0_findFar
  refine am_iconst dX0_findFar_0 ic_0 ?_
  refine am_istore_n [some (am_r 0 0), some (am_i (0 : Int32))] dX0_findFar_1 rfl rfl (Nat.le_of_ble_eq_true rfl) rfl ?_
  refine am_join (β := (Int32 × am_M)) 39 (fun s5 => [none, none]) (fun _ => []) (fun s5 => s5.2) (fun s5 => ?_) (fun hx4 => ?_)
  · exact am_vret dX0_findFar_39 rfl rfl
  refine am_loop (σ := (Int32 × am_M)) (ls' := fun s1 => [some (am_r 0 0), some (am_i s1.1)]) (st' := fun _ => []) (M' := fun s1 => s1.2) (fun rec2 hr3 s1 => ?_) _ _
  unfold fX0_findFar_L2
  refine am_iload_n dX0_findFar_2 rfl rfl ?_
  refine am_aload_n dX0_findFar_3 rfl rfl ?_
  refine am_getA lf_X0_72 rfl rfl dX0_findFar_4 ?_
  refine am_alen (v := 100) rfl (by decide) rfl dX0_findFar_7 ?_
  refine am_icmp_geB (tgt := 39) dX0_findFar_8 rfl ?_ ?_
  · exact am_dr (hx4 (s1.1, s1.2)) trivial
  · refine am_aload_n dX0_findFar_11 rfl rfl ?_
    refine am_getA lf_X0_72 rfl rfl dX0_findFar_12 ?_
    refine am_iload_n dX0_findFar_15 rfl rfl ?_
    refine am_aload_n dX0_findFar_16 rfl rfl ?_
    refine am_aload_n dX0_findFar_17 rfl rfl ?_
    refine am_cVT (as' := []) lc_X0_228 rfl (kX0_open G s1.2) rfl rfl rfl rfl rfl rfl dX0_findFar_18 ?_
    refine am_iload_n dX0_findFar_21 rfl rfl ?_
    refine am_bipush dX0_findFar_22 bp_10 ?_
    refine am_idiv dX0_findFar_24 (by decide) ?_
    refine am_iload_n dX0_findFar_25 rfl rfl ?_
    refine am_bipush dX0_findFar_26 bp_10 ?_
    refine am_irem dX0_findFar_28 (by decide) ?_
    refine am_as ?_
    refine am_cVI (as' := [am_i (fX0_open s1.2), am_i (s1.1 / (10 : Int32)), am_i (jv_rem s1.1 (10 : Int32))]) lc_X0_231 rfl (kX0_farIn G s1.2 (fX0_open s1.2) (s1.1 / (10 : Int32)) (jv_rem s1.1 (10 : Int32))) rfl rfl rfl rfl rfl rfl dX0_findFar_29 (fun v6 => ?_)
    refine am_as ?_
    refine am_iast rfl dX0_findFar_32 (fun M7 => ?_)
    refine am_iinc [some (am_r 0 0), some (am_i (s1.1 + 1))] dX0_findFar_33 rfl ic_1 rfl (Nat.le_of_ble_eq_true rfl) rfl ?_
    refine am_goto (tgt := 2) dX0_findFar_36 rfl ?_
    exact hr3 ((s1.1 + 1), M7)
def fX0_heardIn (M : am_M) (a1 : Int32) (a2 : Int32) : Option Int32 :=
(Option.bind (am_rd (M 0 16) 100 (((10 : Int32) * a1) + (a2 / (100 : Int32)))) fun v1 =>
(if 0 ≤ v1 then
some (jv_max (-1 : Int32) ((jv_rem a2 (100 : Int32)) - v1))
 else
some (-1 : Int32)))
set_option maxHeartbeats 4000000 in
theorem kX0_heardIn (G : am_G) (M : am_M) (a1 : Int32) (a2 : Int32) : am_C G 1 mX0_heardIn [am_r 0 0, am_i a1, am_i a2] M (fun r => (some (am_i r), M)) (fX0_heardIn M a1 a2) := by
  refine am_met (nL := 4) (ls0 := [some (am_r 0 0), some (am_i a1), some (am_i a2), none]) (by decide) rfl (Nat.le_of_ble_eq_true rfl) (And.intro rfl (And.intro rfl (And.intro rfl trivial))) ?_
  unfold fX0_heardIn
  refine am_aload_n dX0_heardIn_0 rfl rfl ?_
  refine am_getA lf_X0_72 rfl rfl dX0_heardIn_1 ?_
  refine am_bipush dX0_heardIn_4 bp_10 ?_
  refine am_iload_n dX0_heardIn_6 rfl rfl ?_
  refine am_imul dX0_heardIn_7 ?_
  refine am_iload_n dX0_heardIn_8 rfl rfl ?_
  refine am_bipush dX0_heardIn_9 bp_100 ?_
  refine am_idiv dX0_heardIn_11 (by decide) ?_
  refine am_iadd dX0_heardIn_12 ?_
  refine am_iald (β := Unit) rfl dX0_heardIn_13 (fun v1 => ?_)
  refine am_istore_n [some (am_r 0 0), some (am_i a1), some (am_i a2), some (am_i v1)] dX0_heardIn_14 rfl rfl (Nat.le_of_ble_eq_true rfl) rfl ?_
  refine am_iload_n dX0_heardIn_15 rfl rfl ?_
  refine am_if_ge (tgt := 23) dX0_heardIn_16 rfl ?_ ?_
  · refine am_iconst dX0_heardIn_23 ic_m1 ?_
    refine am_iload_n dX0_heardIn_24 rfl rfl ?_
    refine am_bipush dX0_heardIn_25 bp_100 ?_
    refine am_irem dX0_heardIn_27 (by decide) ?_
    refine am_iload_n dX0_heardIn_28 rfl rfl ?_
    refine am_isub dX0_heardIn_29 ?_
    refine am_mmax q472 rfl rfl dX0_heardIn_30 ?_
    exact am_iret dX0_heardIn_33 rfl rfl
  · refine am_iconst dX0_heardIn_19 ic_m1 ?_
    refine am_goto (tgt := 33) dX0_heardIn_20 rfl ?_
    exact am_iret dX0_heardIn_33 rfl rfl
def fX0_canBe_L14 (M : am_M) (a1 : Int32) (rec1 : Int32 → Option (Int32 ⊕ Int32)) (s2 : Int32) : Option (Int32 ⊕ Int32) :=
(if (M 2 15 0) ≤ s2 then
some (.inr s2)
 else
(Option.bind (am_rd (M 2 13) 8 s2) fun v3 =>
(Option.bind (fX0_heardIn M v3 a1) fun v4 =>
(Option.bind (am_rd (M 2 14) 8 s2) fun v5 =>
(if v4 = v5 then
rec1 (s2 + 1)
 else
some (.inl (0 : Int32)))))))
def fX0_canBe (M : am_M) (a1 : Int32) : Option Int32 :=
(if (fX0_isNote (jv_rem a1 (100 : Int32))) = 0 then
some (0 : Int32)
 else
(Option.bind (am_it (fX0_canBe_L14 M a1) am_fuel (0 : Int32)) (Sum.elim some fun (s5 : Int32) =>
some (1 : Int32))))
set_option maxHeartbeats 4000000 in
theorem kX0_canBe (G : am_G) (M : am_M) (a1 : Int32) : am_C G 3 mX0_canBe [am_r 0 0, am_i a1] M (fun r => (some (am_i r), M)) (fX0_canBe M a1) := by
  refine am_met (nL := 3) (ls0 := [some (am_r 0 0), some (am_i a1), none]) (by decide) rfl (Nat.le_of_ble_eq_true rfl) (And.intro rfl (And.intro rfl trivial)) ?_
  unfold fX0_canBe
  refine am_iload_n dX0_canBe_0 rfl rfl ?_
  refine am_bipush dX0_canBe_1 bp_100 ?_
  refine am_irem dX0_canBe_3 (by decide) ?_
  refine am_cST lc_X0_107 (kX0_isNote G M (jv_rem a1 (100 : Int32))) rfl rfl rfl rfl rfl dX0_canBe_4 ?_
  refine am_if_ne (tgt := 12) dX0_canBe_7 rfl ?_ ?_
  · refine am_iconst dX0_canBe_10 ic_0 ?_
    exact am_zret (by decide) dX0_canBe_11 rfl rfl
  · refine am_iconst dX0_canBe_12 ic_0 ?_
    refine am_istore_n [some (am_r 0 0), some (am_i a1), some (am_i (0 : Int32))] dX0_canBe_13 rfl rfl (Nat.le_of_ble_eq_true rfl) rfl ?_
    refine am_joinR (S := Int32) 59 (fun s5 => [none, none, none]) (fun _ => []) (fun s5 => M) (fun s5 => ?_) (fun hx4 => ?_)
    · refine am_iconst dX0_canBe_59 ic_1 ?_
      exact am_zret (by decide) dX0_canBe_60 rfl rfl
    refine am_loop (σ := Int32) (ls' := fun s1 => [some (am_r 0 0), some (am_i a1), some (am_i s1)]) (st' := fun _ => []) (M' := fun s1 => M) (fun rec2 hr3 s1 => ?_) _ _
    unfold fX0_canBe_L14
    refine am_iload_n dX0_canBe_14 rfl rfl ?_
    refine am_aload_n dX0_canBe_15 rfl rfl ?_
    refine am_getO (o2 := 2) lf_X0_38 rfl (by decide) dX0_canBe_16 ?_
    refine am_get lf_X0_277 rfl rfl dX0_canBe_19 ?_
    refine am_icmp_geB (tgt := 59) dX0_canBe_22 rfl ?_ ?_
    · exact am_dr (hx4 s1) trivial
    · refine am_aload_n dX0_canBe_25 rfl rfl ?_
      refine am_aload_n dX0_canBe_26 rfl rfl ?_
      refine am_getO (o2 := 2) lf_X0_38 rfl (by decide) dX0_canBe_27 ?_
      refine am_getA lf_X0_280 rfl rfl dX0_canBe_30 ?_
      refine am_iload_n dX0_canBe_33 rfl rfl ?_
      refine am_as ?_
      refine am_iald (β := Unit) rfl dX0_canBe_34 (fun v6 => ?_)
      refine am_iload_n dX0_canBe_35 rfl rfl ?_
      refine am_as ?_
      refine am_cVI (as' := [am_i v6, am_i a1]) lc_X0_286 rfl (kX0_heardIn G M v6 a1) rfl rfl rfl rfl rfl rfl dX0_canBe_36 (fun v7 => ?_)
      refine am_aload_n dX0_canBe_39 rfl rfl ?_
      refine am_getO (o2 := 2) lf_X0_38 rfl (by decide) dX0_canBe_40 ?_
      refine am_getA lf_X0_283 rfl rfl dX0_canBe_43 ?_
      refine am_iload_n dX0_canBe_46 rfl rfl ?_
      refine am_as ?_
      refine am_iald (β := Unit) rfl dX0_canBe_47 (fun v8 => ?_)
      refine am_icmp_eqB (tgt := 53) dX0_canBe_48 rfl ?_ ?_
      · refine am_iinc [some (am_r 0 0), some (am_i a1), some (am_i (s1 + 1))] dX0_canBe_53 rfl ic_1 rfl (Nat.le_of_ble_eq_true rfl) rfl ?_
        refine am_goto (tgt := 14) dX0_canBe_56 rfl ?_
        exact hr3 (s1 + 1)
      · refine am_iconst dX0_canBe_51 ic_0 ?_
        show am_R _ _ _ _ _ _ _ _ (some (0 : Int32))
        exact am_zret (by decide) dX0_canBe_52 rfl rfl
def fX0_losts_L8 (a1 : Int32) (M1 : am_M) (rec2 : (Int32 × Int32) → Option ((Int32 × am_M) ⊕ (Int32 × Int32))) (s3 : (Int32 × Int32)) : Option ((Int32 × am_M) ⊕ (Int32 × Int32)) :=
(if (1000 : Int32) ≤ s3.2 then
some (.inr (s3.1, s3.2))
 else
(Option.bind (fX0_canBe M1 s3.2) fun v4 =>
(if v4 = 0 then
rec2 (s3.1, (s3.2 + 1))
 else
(if s3.1 = a1 then
some (.inl (s3.2, M1))
 else
rec2 ((s3.1 + 1), (s3.2 + 1))))))
def fX0_losts (M : am_M) (a1 : Int32) : Option (Int32 × am_M) :=
(Option.bind (fX0_findFar M) fun M1 =>
(Option.bind (am_it (fX0_losts_L8 a1 M1) am_fuel ((0 : Int32), (0 : Int32))) (Sum.elim some fun (s6 : (Int32 × Int32)) =>
(if a1 = (-1 : Int32) then
some (s6.1, M1)
 else
some ((-6 : Int32), M1)))))
set_option maxHeartbeats 4000000 in
theorem kX0_losts (G : am_G) (M : am_M) (a1 : Int32) : am_C G 4 mX0_losts [am_r 0 0, am_i a1] M (fun r => (some (am_i r.1), r.2)) (fX0_losts M a1) := by
  refine am_met (nL := 4) (ls0 := [some (am_r 0 0), some (am_i a1), none, none]) (by decide) rfl (Nat.le_of_ble_eq_true rfl) (And.intro rfl (And.intro rfl trivial)) ?_
  unfold fX0_losts
  refine am_aload_n dX0_losts_0 rfl rfl ?_
  refine am_cVU (as' := []) lc_X0_289 rfl (kX0_findFar G M) rfl rfl rfl rfl rfl rfl dX0_losts_1 (fun M1 => ?_)
  refine am_iconst dX0_losts_4 ic_0 ?_
  refine am_istore_n [some (am_r 0 0), some (am_i a1), some (am_i (0 : Int32)), none] dX0_losts_5 rfl rfl (Nat.le_of_ble_eq_true rfl) rfl ?_
  refine am_iconst dX0_losts_6 ic_0 ?_
  refine am_istore_n [some (am_r 0 0), some (am_i a1), some (am_i (0 : Int32)), some (am_i (0 : Int32))] dX0_losts_7 rfl rfl (Nat.le_of_ble_eq_true rfl) rfl ?_
  refine am_joinR (S := (Int32 × Int32)) 39 (fun s6 => [none, some (am_i a1), some (am_i s6.1), none]) (fun _ => []) (fun s6 => M1) (fun s6 => ?_) (fun hx5 => ?_)
  · refine am_iload_n dX0_losts_39 rfl rfl ?_
    refine am_iconst dX0_losts_40 ic_m1 ?_
    refine am_icmp_ne (tgt := 48) dX0_losts_41 rfl ?_ ?_
    · refine am_iload_n dX0_losts_44 rfl rfl ?_
      refine am_goto (tgt := 50) dX0_losts_45 rfl ?_
      exact am_iret dX0_losts_50 rfl rfl
    · refine am_bipush dX0_losts_48 bp_m6 ?_
      exact am_iret dX0_losts_50 rfl rfl
  refine am_loop (σ := (Int32 × Int32)) (ls' := fun s2 => [some (am_r 0 0), some (am_i a1), some (am_i s2.1), some (am_i s2.2)]) (st' := fun _ => []) (M' := fun s2 => M1) (fun rec3 hr4 s2 => ?_) _ _
  unfold fX0_losts_L8
  refine am_iload_n dX0_losts_8 rfl rfl ?_
  refine am_sipush dX0_losts_9 sp_1000 ?_
  refine am_icmp_geB (tgt := 39) dX0_losts_12 rfl ?_ ?_
  · exact am_dr (hx5 (s2.1, s2.2)) (And.intro rfl (And.intro rfl trivial))
  · refine am_aload_n dX0_losts_15 rfl rfl ?_
    refine am_iload_n dX0_losts_16 rfl rfl ?_
    refine am_as ?_
    refine am_cVI (as' := [am_i s2.2]) lc_X0_292 rfl (kX0_canBe G M1 s2.2) rfl rfl rfl rfl rfl rfl dX0_losts_17 (fun v7 => ?_)
    refine am_if_eqB (tgt := 33) dX0_losts_20 rfl ?_ ?_
    · refine am_iinc [some (am_r 0 0), some (am_i a1), some (am_i s2.1), some (am_i (s2.2 + 1))] dX0_losts_33 rfl ic_1 rfl (Nat.le_of_ble_eq_true rfl) rfl ?_
      refine am_goto (tgt := 8) dX0_losts_36 rfl ?_
      exact hr4 (s2.1, (s2.2 + 1))
    · refine am_iload_n dX0_losts_23 rfl rfl ?_
      refine am_iload_n dX0_losts_24 rfl rfl ?_
      refine am_icmp_neB (tgt := 30) dX0_losts_25 rfl ?_ ?_
      · refine am_iload_n dX0_losts_28 rfl rfl ?_
        show am_R _ _ _ _ _ _ _ _ (some (s2.2, M1))
        exact am_iret dX0_losts_29 rfl rfl
      · refine am_iinc [some (am_r 0 0), some (am_i a1), some (am_i (s2.1 + 1)), some (am_i s2.2)] dX0_losts_30 rfl ic_1 rfl (Nat.le_of_ble_eq_true rfl) rfl ?_
        refine am_iinc [some (am_r 0 0), some (am_i a1), some (am_i (s2.1 + 1)), some (am_i (s2.2 + 1))] dX0_losts_33 rfl ic_1 rfl (Nat.le_of_ble_eq_true rfl) rfl ?_
        refine am_goto (tgt := 8) dX0_losts_36 rfl ?_
        exact hr4 ((s2.1 + 1), (s2.2 + 1))
def fX0_mostLeft_L12 (a1 : Int32) (rec1 : (Int32 × Int32 × am_M) → Option (Int32 × Int32 × am_M)) (s2 : (Int32 × Int32 × am_M)) : Option (Int32 × Int32 × am_M) :=
(if (1000 : Int32) ≤ s2.2.1 then
some (s2.1, s2.2.1, s2.2.2)
 else
(Option.bind (fX0_canBe s2.2.2 s2.2.1) fun v3 =>
(Option.bind (if v3 = 0 then
some (s2.1, s2.2.2)
 else
(Option.bind (fX0_heardIn s2.2.2 a1 s2.2.1) fun v4 =>
(Option.bind (am_rd ((s2.2.2) 0 17) 25 ((1 : Int32) + v4)) fun v5 =>
(Option.bind (am_wr s2.2.2 0 17 25 ((1 : Int32) + v4) (v5 + (1 : Int32))) fun M6 =>
(Option.bind (am_rd (M6 0 17) 25 ((1 : Int32) + v4)) fun v7 =>
some ((jv_max s2.1 v7), M6)))))) fun (x8 : (Int32 × am_M)) =>
rec1 (x8.1, (s2.2.1 + 1), x8.2))))
def fX0_mostLeft (M : am_M) (a1 : Int32) : Option (Int32 × am_M) :=
(Option.bind (fX0_fill M 0 17 25 (0 : Int32)) fun M1 =>
(Option.bind (am_it (fX0_mostLeft_L12 a1) am_fuel ((0 : Int32), (0 : Int32), M1)) fun (s6 : (Int32 × Int32 × am_M)) =>
some (s6.1, s6.2.2)))
set_option maxHeartbeats 4000000 in
theorem kX0_mostLeft (G : am_G) (M : am_M) (a1 : Int32) : am_C G 4 mX0_mostLeft [am_r 0 0, am_i a1] M (fun r => (some (am_i r.1), r.2)) (fX0_mostLeft M a1) := by
  refine am_met (nL := 5) (ls0 := [some (am_r 0 0), some (am_i a1), none, none, none]) (by decide) rfl (Nat.le_of_ble_eq_true rfl) (And.intro rfl (And.intro rfl trivial)) ?_
  unfold fX0_mostLeft
  refine am_aload_n dX0_mostLeft_0 rfl rfl ?_
  refine am_getA lf_X0_75 rfl rfl dX0_mostLeft_1 ?_
  refine am_iconst dX0_mostLeft_4 ic_0 ?_
  refine am_cSU lc_X0_268 (kX0_fill G M 0 17 25 (0 : Int32) rfl) rfl rfl rfl rfl rfl dX0_mostLeft_5 (fun M1 => ?_)
  refine am_iconst dX0_mostLeft_8 ic_0 ?_
  refine am_istore_n [some (am_r 0 0), some (am_i a1), some (am_i (0 : Int32)), none, none] dX0_mostLeft_9 rfl rfl (Nat.le_of_ble_eq_true rfl) rfl ?_
  refine am_iconst dX0_mostLeft_10 ic_0 ?_
  refine am_istore_n [some (am_r 0 0), some (am_i a1), some (am_i (0 : Int32)), some (am_i (0 : Int32)), none] dX0_mostLeft_11 rfl rfl (Nat.le_of_ble_eq_true rfl) rfl ?_
  refine am_join (β := (Int32 × Int32 × am_M)) 66 (fun s6 => [none, none, some (am_i s6.1), none, none]) (fun _ => []) (fun s6 => s6.2.2) (fun s6 => ?_) (fun hx5 => ?_)
  · refine am_iload_n dX0_mostLeft_66 rfl rfl ?_
    exact am_iret dX0_mostLeft_67 rfl rfl
  refine am_loop (σ := (Int32 × Int32 × am_M)) (ls' := fun s2 => [some (am_r 0 0), some (am_i a1), some (am_i s2.1), some (am_i s2.2.1), none]) (st' := fun _ => []) (M' := fun s2 => s2.2.2) (fun rec3 hr4 s2 => ?_) _ _
  unfold fX0_mostLeft_L12
  refine am_iload_n dX0_mostLeft_12 rfl rfl ?_
  refine am_sipush dX0_mostLeft_13 sp_1000 ?_
  refine am_icmp_geB (tgt := 66) dX0_mostLeft_16 rfl ?_ ?_
  · exact am_dr (hx5 (s2.1, s2.2.1, s2.2.2)) (And.intro rfl trivial)
  · refine am_aload_n dX0_mostLeft_19 rfl rfl ?_
    refine am_iload_n dX0_mostLeft_20 rfl rfl ?_
    refine am_as ?_
    refine am_cVI (as' := [am_i s2.2.1]) lc_X0_292 rfl (kX0_canBe G s2.2.2 s2.2.1) rfl rfl rfl rfl rfl rfl dX0_mostLeft_21 (fun v7 => ?_)
    refine am_as ?_
    refine am_join (β := (Int32 × am_M)) 60 (fun x8 => [some (am_r 0 0), some (am_i a1), some (am_i x8.1), some (am_i s2.2.1), none]) (fun x8 => []) (fun x8 => x8.2) (fun x8 => ?_) (fun hm9 => ?_)
    · refine am_iinc [some (am_r 0 0), some (am_i a1), some (am_i x8.1), some (am_i (s2.2.1 + 1)), none] dX0_mostLeft_60 rfl ic_1 rfl (Nat.le_of_ble_eq_true rfl) rfl ?_
      refine am_goto (tgt := 12) dX0_mostLeft_63 rfl ?_
      exact hr4 (x8.1, (s2.2.1 + 1), x8.2)
    refine am_if_eqB (tgt := 60) dX0_mostLeft_24 rfl ?_ ?_
    · exact hm9 (s2.1, s2.2.2)
    · refine am_iconst dX0_mostLeft_27 ic_1 ?_
      refine am_aload_n dX0_mostLeft_28 rfl rfl ?_
      refine am_iload_n dX0_mostLeft_29 rfl rfl ?_
      refine am_iload_n dX0_mostLeft_30 rfl rfl ?_
      refine am_as ?_
      refine am_cVI (as' := [am_i a1, am_i s2.2.1]) lc_X0_286 rfl (kX0_heardIn G s2.2.2 a1 s2.2.1) rfl rfl rfl rfl rfl rfl dX0_mostLeft_31 (fun v10 => ?_)
      refine am_iadd dX0_mostLeft_34 ?_
      refine am_istore [some (am_r 0 0), some (am_i a1), some (am_i s2.1), some (am_i s2.2.1), some (am_i ((1 : Int32) + v10))] dX0_mostLeft_35 rfl (Nat.le_of_ble_eq_true rfl) rfl ?_
      refine am_aload_n dX0_mostLeft_37 rfl rfl ?_
      refine am_getA lf_X0_75 rfl rfl dX0_mostLeft_38 ?_
      refine am_iload dX0_mostLeft_41 rfl ?_
      refine am_dup2 dX0_mostLeft_43 rfl rfl ?_
      refine am_as ?_
      refine am_iald (β := Unit) rfl dX0_mostLeft_44 (fun v11 => ?_)
      refine am_iconst dX0_mostLeft_45 ic_1 ?_
      refine am_iadd dX0_mostLeft_46 ?_
      refine am_as ?_
      refine am_iast rfl dX0_mostLeft_47 (fun M12 => ?_)
      refine am_iload_n dX0_mostLeft_48 rfl rfl ?_
      refine am_aload_n dX0_mostLeft_49 rfl rfl ?_
      refine am_getA lf_X0_75 rfl rfl dX0_mostLeft_50 ?_
      refine am_iload dX0_mostLeft_53 rfl ?_
      refine am_as ?_
      refine am_iald (β := Unit) rfl dX0_mostLeft_55 (fun v13 => ?_)
      refine am_mmax q472 rfl rfl dX0_mostLeft_56 ?_
      refine am_istore_n [some (am_r 0 0), some (am_i a1), some (am_i (jv_max s2.1 v13)), some (am_i s2.2.1), some (am_i ((1 : Int32) + v10))] dX0_mostLeft_59 rfl rfl (Nat.le_of_ble_eq_true rfl) rfl ?_
      exact am_dr (hm9 ((jv_max s2.1 v13), M12)) (And.intro rfl (And.intro rfl (And.intro rfl (And.intro rfl trivial))))
def fX0_listen_L25  (rec1 : (Int32 × Int32 × Int32 × am_M) → Option (Int32 × Int32 × Int32 × am_M)) (s2 : (Int32 × Int32 × Int32 × am_M)) : Option (Int32 × Int32 × Int32 × am_M) :=
(if (10 : Int32) ≤ s2.2.2.1 then
some (s2.1, s2.2.1, s2.2.2.1, s2.2.2.2)
 else
(Option.bind (fX0_mostLeft s2.2.2.2 s2.2.2.1) fun r3 =>
(Option.bind (if s2.2.1 ≤ r3.1 then
some s2.1
 else
some s2.2.2.1) fun (x4 : Int32) =>
rec1 (x4, (jv_min s2.2.1 r3.1), (s2.2.2.1 + 1), r3.2))))
def fX0_listen (M : am_M) (a1 : Int32) : Option (Int32 × am_M) :=
(if (fX0_isEnd a1) = 0 then
some ((-2 : Int32), M)
 else
(Option.bind (fX0_findFar M) fun M1 =>
(Option.bind (fX0_mostLeft M1 (0 : Int32)) fun r2 =>
(Option.bind (am_it fX0_listen_L25 am_fuel ((0 : Int32), r2.1, (1 : Int32), r2.2)) fun (s7 : (Int32 × Int32 × Int32 × am_M)) =>
(if s7.2.1 = 0 then
some ((-6 : Int32), s7.2.2.2)
 else
(if a1 = 0 then
some (s7.1, s7.2.2.2)
 else
some (s7.2.1, s7.2.2.2)))))))
set_option maxHeartbeats 4000000 in
theorem kX0_listen (G : am_G) (M : am_M) (a1 : Int32) : am_C G 5 mX0_listen [am_r 0 0, am_i a1] M (fun r => (some (am_i r.1), r.2)) (fX0_listen M a1) := by
  refine am_met (nL := 6) (ls0 := [some (am_r 0 0), some (am_i a1), none, none, none, none]) (by decide) rfl (Nat.le_of_ble_eq_true rfl) (And.intro rfl (And.intro rfl trivial)) ?_
  unfold fX0_listen
  refine am_iload_n dX0_listen_0 rfl rfl ?_
  refine am_cST lc_X0_197 (kX0_isEnd G M a1) rfl rfl rfl rfl rfl dX0_listen_1 ?_
  refine am_if_ne (tgt := 10) dX0_listen_4 rfl ?_ ?_
  · refine am_bipush dX0_listen_7 bp_m2 ?_
    exact am_iret dX0_listen_9 rfl rfl
  · refine am_aload_n dX0_listen_10 rfl rfl ?_
    refine am_cVU (as' := []) lc_X0_289 rfl (kX0_findFar G M) rfl rfl rfl rfl rfl rfl dX0_listen_11 (fun M1 => ?_)
    refine am_iconst dX0_listen_14 ic_0 ?_
    refine am_istore_n [some (am_r 0 0), some (am_i a1), some (am_i (0 : Int32)), none, none, none] dX0_listen_15 rfl rfl (Nat.le_of_ble_eq_true rfl) rfl ?_
    refine am_aload_n dX0_listen_16 rfl rfl ?_
    refine am_iconst dX0_listen_17 ic_0 ?_
    refine am_cVX (as' := [am_i (0 : Int32)]) lc_X0_295 rfl (kX0_mostLeft G M1 (0 : Int32)) rfl rfl rfl rfl rfl rfl dX0_listen_18 (fun r2 => ?_)
    refine am_istore_n [some (am_r 0 0), some (am_i a1), some (am_i (0 : Int32)), some (am_i r2.1), none, none] dX0_listen_21 rfl rfl (Nat.le_of_ble_eq_true rfl) rfl ?_
    refine am_iconst dX0_listen_22 ic_1 ?_
    refine am_istore [some (am_r 0 0), some (am_i a1), some (am_i (0 : Int32)), some (am_i r2.1), some (am_i (1 : Int32)), none] dX0_listen_23 rfl (Nat.le_of_ble_eq_true rfl) rfl ?_
    refine am_join (β := (Int32 × Int32 × Int32 × am_M)) 66 (fun s7 => [none, some (am_i a1), some (am_i s7.1), some (am_i s7.2.1), none, none]) (fun _ => []) (fun s7 => s7.2.2.2) (fun s7 => ?_) (fun hx6 => ?_)
    · refine am_iload_n dX0_listen_66 rfl rfl ?_
      refine am_if_ne (tgt := 75) dX0_listen_67 rfl ?_ ?_
      · refine am_bipush dX0_listen_70 bp_m6 ?_
        refine am_goto (tgt := 84) dX0_listen_72 rfl ?_
        exact am_iret dX0_listen_84 rfl rfl
      · refine am_iload_n dX0_listen_75 rfl rfl ?_
        refine am_if_ne (tgt := 83) dX0_listen_76 rfl ?_ ?_
        · refine am_iload_n dX0_listen_79 rfl rfl ?_
          refine am_goto (tgt := 84) dX0_listen_80 rfl ?_
          exact am_iret dX0_listen_84 rfl rfl
        · refine am_iload_n dX0_listen_83 rfl rfl ?_
          exact am_iret dX0_listen_84 rfl rfl
    refine am_loop (σ := (Int32 × Int32 × Int32 × am_M)) (ls' := fun s3 => [some (am_r 0 0), some (am_i a1), some (am_i s3.1), some (am_i s3.2.1), some (am_i s3.2.2.1), none]) (st' := fun _ => []) (M' := fun s3 => s3.2.2.2) (fun rec4 hr5 s3 => ?_) _ _
    unfold fX0_listen_L25
    refine am_iload dX0_listen_25 rfl ?_
    refine am_bipush dX0_listen_27 bp_10 ?_
    refine am_icmp_geB (tgt := 66) dX0_listen_29 rfl ?_ ?_
    · exact am_dr (hx6 (s3.1, s3.2.1, s3.2.2.1, s3.2.2.2)) (And.intro rfl (And.intro rfl (And.intro rfl trivial)))
    · refine am_aload_n dX0_listen_32 rfl rfl ?_
      refine am_iload dX0_listen_33 rfl ?_
      refine am_as ?_
      refine am_cVX (as' := [am_i s3.2.2.1]) lc_X0_295 rfl (kX0_mostLeft G s3.2.2.2 s3.2.2.1) rfl rfl rfl rfl rfl rfl dX0_listen_35 (fun r8 => ?_)
      refine am_istore [some (am_r 0 0), some (am_i a1), some (am_i s3.1), some (am_i s3.2.1), some (am_i s3.2.2.1), some (am_i r8.1)] dX0_listen_38 rfl (Nat.le_of_ble_eq_true rfl) rfl ?_
      refine am_iload dX0_listen_40 rfl ?_
      refine am_iload_n dX0_listen_42 rfl rfl ?_
      refine am_as ?_
      refine am_join (β := Int32) 52 (fun x9 => [some (am_r 0 0), some (am_i a1), some (am_i s3.1), some (am_i s3.2.1), some (am_i s3.2.2.1), some (am_i r8.1)]) (fun x9 => [am_i x9]) (fun x9 => r8.2) (fun x9 => ?_) (fun hm10 => ?_)
      · refine am_istore_n [some (am_r 0 0), some (am_i a1), some (am_i x9), some (am_i s3.2.1), some (am_i s3.2.2.1), some (am_i r8.1)] dX0_listen_52 rfl rfl (Nat.le_of_ble_eq_true rfl) rfl ?_
        refine am_iload_n dX0_listen_53 rfl rfl ?_
        refine am_iload dX0_listen_54 rfl ?_
        refine am_mmin q473 rfl rfl dX0_listen_56 ?_
        refine am_istore_n [some (am_r 0 0), some (am_i a1), some (am_i x9), some (am_i (jv_min s3.2.1 r8.1)), some (am_i s3.2.2.1), some (am_i r8.1)] dX0_listen_59 rfl rfl (Nat.le_of_ble_eq_true rfl) rfl ?_
        refine am_iinc [some (am_r 0 0), some (am_i a1), some (am_i x9), some (am_i (jv_min s3.2.1 r8.1)), some (am_i (s3.2.2.1 + 1)), some (am_i r8.1)] dX0_listen_60 rfl ic_1 rfl (Nat.le_of_ble_eq_true rfl) rfl ?_
        refine am_goto (tgt := 25) dX0_listen_63 rfl ?_
        exact am_dr (hr5 (x9, (jv_min s3.2.1 r8.1), (s3.2.2.1 + 1), r8.2)) (And.intro rfl (And.intro rfl (And.intro rfl (And.intro rfl (And.intro rfl trivial)))))
      refine am_icmp_geB (tgt := 51) dX0_listen_43 rfl ?_ ?_
      · refine am_iload_n dX0_listen_51 rfl rfl ?_
        exact hm10 s3.1
      · refine am_iload dX0_listen_46 rfl ?_
        refine am_goto (tgt := 52) dX0_listen_48 rfl ?_
        exact hm10 s3.2.2.1
def fX0_singingIn_L4 (M : am_M) (a1 : Int32) (rec1 : (Int32 × Int32) → Option (Int32 × Int32)) (s2 : (Int32 × Int32)) : Option (Int32 × Int32) :=
(if (8 : Int32) ≤ s2.2 then
some (s2.1, s2.2)
 else
(Option.bind (fX1_sings (M 2) s2.2) fun v3 =>
(Option.bind (if v3 = 0 then
some (0 : Int32)
 else
(Option.bind (am_rd (M 2 10) 8 s2.2) fun v4 =>
(if v4 = a1 then
some (1 : Int32)
 else
some (0 : Int32)))) fun (x5 : Int32) =>
rec1 ((s2.1 + x5), (s2.2 + 1)))))
def fX0_singingIn (M : am_M) (a1 : Int32) : Option Int32 :=
(Option.bind (am_it (fX0_singingIn_L4 M a1) am_fuel ((0 : Int32), (0 : Int32))) fun (s5 : (Int32 × Int32)) =>
some s5.1)
set_option maxHeartbeats 4000000 in
theorem kX0_singingIn (G : am_G) (M : am_M) (a1 : Int32) : am_C G 4 mX0_singingIn [am_r 0 0, am_i a1] M (fun r => (some (am_i r), M)) (fX0_singingIn M a1) := by
  refine am_met (nL := 4) (ls0 := [some (am_r 0 0), some (am_i a1), none, none]) (by decide) rfl (Nat.le_of_ble_eq_true rfl) (And.intro rfl (And.intro rfl trivial)) ?_
  unfold fX0_singingIn
  refine am_iconst dX0_singingIn_0 ic_0 ?_
  refine am_istore_n [some (am_r 0 0), some (am_i a1), some (am_i (0 : Int32)), none] dX0_singingIn_1 rfl rfl (Nat.le_of_ble_eq_true rfl) rfl ?_
  refine am_iconst dX0_singingIn_2 ic_0 ?_
  refine am_istore_n [some (am_r 0 0), some (am_i a1), some (am_i (0 : Int32)), some (am_i (0 : Int32))] dX0_singingIn_3 rfl rfl (Nat.le_of_ble_eq_true rfl) rfl ?_
  refine am_join (β := (Int32 × Int32)) 48 (fun s5 => [none, none, some (am_i s5.1), none]) (fun _ => []) (fun s5 => M) (fun s5 => ?_) (fun hx4 => ?_)
  · refine am_iload_n dX0_singingIn_48 rfl rfl ?_
    exact am_iret dX0_singingIn_49 rfl rfl
  refine am_loop (σ := (Int32 × Int32)) (ls' := fun s1 => [some (am_r 0 0), some (am_i a1), some (am_i s1.1), some (am_i s1.2)]) (st' := fun _ => []) (M' := fun s1 => M) (fun rec2 hr3 s1 => ?_) _ _
  unfold fX0_singingIn_L4
  refine am_iload_n dX0_singingIn_4 rfl rfl ?_
  refine am_bipush dX0_singingIn_5 bp_8 ?_
  refine am_icmp_geB (tgt := 48) dX0_singingIn_7 rfl ?_ ?_
  · exact am_dr (hx4 (s1.1, s1.2)) (And.intro rfl trivial)
  · refine am_iload_n dX0_singingIn_10 rfl rfl ?_
    refine am_aload_n dX0_singingIn_11 rfl rfl ?_
    refine am_getO (o2 := 2) lf_X0_38 rfl (by decide) dX0_singingIn_12 ?_
    refine am_iload_n dX0_singingIn_15 rfl rfl ?_
    refine am_as ?_
    refine am_cVI (as' := [am_i s1.2]) lc_X0_218 rfl (kX1_sings G M 0 s1.2) rfl rfl rfl rfl rfl rfl dX0_singingIn_16 (fun v6 => ?_)
    refine am_as ?_
    refine am_join (β := Int32) 40 (fun x7 => [some (am_r 0 0), some (am_i a1), some (am_i s1.1), some (am_i s1.2)]) (fun x7 => [am_i x7, am_i s1.1]) (fun x7 => M) (fun x7 => ?_) (fun hm8 => ?_)
    · refine am_iadd dX0_singingIn_40 ?_
      refine am_istore_n [some (am_r 0 0), some (am_i a1), some (am_i (s1.1 + x7)), some (am_i s1.2)] dX0_singingIn_41 rfl rfl (Nat.le_of_ble_eq_true rfl) rfl ?_
      refine am_iinc [some (am_r 0 0), some (am_i a1), some (am_i (s1.1 + x7)), some (am_i (s1.2 + 1))] dX0_singingIn_42 rfl ic_1 rfl (Nat.le_of_ble_eq_true rfl) rfl ?_
      refine am_goto (tgt := 4) dX0_singingIn_45 rfl ?_
      exact hr3 ((s1.1 + x7), (s1.2 + 1))
    refine am_if_eqB (tgt := 39) dX0_singingIn_19 rfl ?_ ?_
    · refine am_iconst dX0_singingIn_39 ic_0 ?_
      exact hm8 (0 : Int32)
    · refine am_aload_n dX0_singingIn_22 rfl rfl ?_
      refine am_getO (o2 := 2) lf_X0_38 rfl (by decide) dX0_singingIn_23 ?_
      refine am_getA lf_X0_127 rfl rfl dX0_singingIn_26 ?_
      refine am_iload_n dX0_singingIn_29 rfl rfl ?_
      refine am_as ?_
      refine am_iald (β := Unit) rfl dX0_singingIn_30 (fun v9 => ?_)
      refine am_iload_n dX0_singingIn_31 rfl rfl ?_
      refine am_icmp_neB (tgt := 39) dX0_singingIn_32 rfl ?_ ?_
      · refine am_iconst dX0_singingIn_35 ic_1 ?_
        refine am_goto (tgt := 40) dX0_singingIn_36 rfl ?_
        exact hm8 (1 : Int32)
      · refine am_iconst dX0_singingIn_39 ic_0 ?_
        exact hm8 (0 : Int32)
def fX0_times_L5 (a0 : Int64) (a1 : Int32) (rec1 : (Int64 × Int32) → Option (Int64 × Int32)) (s2 : (Int64 × Int32)) : Option (Int64 × Int32) :=
(if a1 ≤ s2.2 then
some (s2.1, s2.2)
 else
rec1 ((s2.1 * a0), (s2.2 + 1)))
def fX0_times (a0 : Int64) (a1 : Int32) : Option Int64 :=
(Option.bind (am_it (fX0_times_L5 a0 a1) am_fuel ((1 : Int64), (0 : Int32))) fun (s5 : (Int64 × Int32)) =>
some s5.1)
set_option maxHeartbeats 4000000 in
theorem kX0_times (G : am_G) (M : am_M) (a0 : Int64) (a1 : Int32) : am_C G 1 mX0_times [am_l a0, am_i a1] M (fun r => (some (am_l r), M)) (fX0_times a0 a1) := by
  refine am_met (nL := 6) (ls0 := [some (am_l a0), none, some (am_i a1), none, none, none]) (by decide) rfl (Nat.le_of_ble_eq_true rfl) (And.intro rfl (And.intro rfl trivial)) ?_
  unfold fX0_times
  refine am_lconst (v := 1) dX0_times_0 rfl ?_
  refine am_lstore_n [some (am_l a0), none, some (am_i a1), some (am_l (1 : Int64)), none, none] dX0_times_1 rfl rfl (Nat.le_of_ble_eq_true rfl) rfl ?_
  refine am_iconst dX0_times_2 ic_0 ?_
  refine am_istore [some (am_l a0), none, some (am_i a1), some (am_l (1 : Int64)), none, some (am_i (0 : Int32))] dX0_times_3 rfl (Nat.le_of_ble_eq_true rfl) rfl ?_
  refine am_join (β := (Int64 × Int32)) 21 (fun s5 => [none, none, none, some (am_l s5.1), none, none]) (fun _ => []) (fun s5 => M) (fun s5 => ?_) (fun hx4 => ?_)
  · refine am_lload_n dX0_times_21 rfl rfl ?_
    exact am_lret dX0_times_22 rfl rfl
  refine am_loop (σ := (Int64 × Int32)) (ls' := fun s1 => [some (am_l a0), none, some (am_i a1), some (am_l s1.1), none, some (am_i s1.2)]) (st' := fun _ => []) (M' := fun s1 => M) (fun rec2 hr3 s1 => ?_) _ _
  unfold fX0_times_L5
  refine am_iload dX0_times_5 rfl ?_
  refine am_iload_n dX0_times_7 rfl rfl ?_
  refine am_icmp_geB (tgt := 21) dX0_times_8 rfl ?_ ?_
  · exact am_dr (hx4 (s1.1, s1.2)) (And.intro rfl trivial)
  · refine am_lload_n dX0_times_11 rfl rfl ?_
    refine am_lload_n dX0_times_12 rfl rfl ?_
    refine am_lmul dX0_times_13 ?_
    refine am_lstore_n [some (am_l a0), none, some (am_i a1), some (am_l (s1.1 * a0)), none, some (am_i s1.2)] dX0_times_14 rfl rfl (Nat.le_of_ble_eq_true rfl) rfl ?_
    refine am_iinc [some (am_l a0), none, some (am_i a1), some (am_l (s1.1 * a0)), none, some (am_i (s1.2 + 1))] dX0_times_15 rfl ic_1 rfl (Nat.le_of_ble_eq_true rfl) rfl ?_
    refine am_goto (tgt := 5) dX0_times_18 rfl ?_
    exact hr3 ((s1.1 * a0), (s1.2 + 1))
def fX0_lowest_L6  (rec1 : (Int64 × Int64) → Option (Int64 × Int64)) (s2 : (Int64 × Int64)) : Option (Int64 × Int64) :=
(if (lg_cmp s2.2 (0 : Int64)) = 0 then
some (s2.1, s2.2)
 else
(if s2.2 = 0 then none else rec1 (s2.2, (jv_lrem s2.1 s2.2))))
def fX0_lowest (a0 : Int64) (a1 : Int64) (a2 : Int32) : Option Int64 :=
(Option.bind (am_it fX0_lowest_L6 am_fuel (a1, a0)) fun (s5 : (Int64 × Int64)) =>
(Option.bind (if a2 = 0 then
some a0
 else
some a1) fun (x7 : Int64) =>
(if s5.1 = 0 then none else some (x7 / s5.1))))
set_option maxHeartbeats 4000000 in
theorem kX0_lowest (G : am_G) (M : am_M) (a0 : Int64) (a1 : Int64) (a2 : Int32) : am_C G 1 mX0_lowest [am_l a0, am_l a1, am_i a2] M (fun r => (some (am_l r), M)) (fX0_lowest a0 a1 a2) := by
  refine am_met (nL := 11) (ls0 := [some (am_l a0), none, some (am_l a1), none, some (am_i a2), none, none, none, none, none, none]) (by decide) rfl (Nat.le_of_ble_eq_true rfl) (And.intro rfl (And.intro rfl (And.intro rfl trivial))) ?_
  unfold fX0_lowest
  refine am_lload_n dX0_lowest_0 rfl rfl ?_
  refine am_lstore [some (am_l a0), none, some (am_l a1), none, some (am_i a2), some (am_l a1), none, none, none, none, none] dX0_lowest_1 rfl (Nat.le_of_ble_eq_true rfl) rfl ?_
  refine am_lload_n dX0_lowest_3 rfl rfl ?_
  refine am_lstore [some (am_l a0), none, some (am_l a1), none, some (am_i a2), some (am_l a1), none, some (am_l a0), none, none, none] dX0_lowest_4 rfl (Nat.le_of_ble_eq_true rfl) rfl ?_
  refine am_join (β := (Int64 × Int64)) 31 (fun s5 => [some (am_l a0), none, some (am_l a1), none, some (am_i a2), some (am_l s5.1), none, none, none, none, none]) (fun _ => []) (fun s5 => M) (fun s5 => ?_) (fun hx4 => ?_)
  · refine am_iload dX0_lowest_31 rfl ?_
    refine am_join (β := Int64) 41 (fun x7 => [some (am_l a0), none, some (am_l a1), none, some (am_i a2), some (am_l s5.1), none, none, none, none, none]) (fun x7 => [am_l x7]) (fun x7 => M) (fun x7 => ?_) (fun hm8 => ?_)
    · refine am_lload dX0_lowest_41 rfl ?_
      refine am_grd (fun h9 => ?_)
      refine am_ldiv dX0_lowest_43 h9 ?_
      exact am_lret dX0_lowest_44 rfl rfl
    refine am_if_neB (tgt := 40) dX0_lowest_33 rfl ?_ ?_
    · refine am_lload_n dX0_lowest_36 rfl rfl ?_
      refine am_goto (tgt := 41) dX0_lowest_37 rfl ?_
      exact hm8 a0
    · refine am_lload_n dX0_lowest_40 rfl rfl ?_
      exact hm8 a1
  refine am_loop (σ := (Int64 × Int64)) (ls' := fun s1 => [some (am_l a0), none, some (am_l a1), none, some (am_i a2), some (am_l s1.1), none, some (am_l s1.2), none, none, none]) (st' := fun _ => []) (M' := fun s1 => M) (fun rec2 hr3 s1 => ?_) _ _
  unfold fX0_lowest_L6
  refine am_lload dX0_lowest_6 rfl ?_
  refine am_lconst (v := 0) dX0_lowest_8 rfl ?_
  refine am_lcmp dX0_lowest_9 ?_
  refine am_if_eqB (tgt := 31) dX0_lowest_10 rfl ?_ ?_
  · exact am_dr (hx4 (s1.1, s1.2)) (And.intro rfl (And.intro rfl (And.intro rfl (And.intro rfl trivial))))
  · refine am_lload dX0_lowest_13 rfl ?_
    refine am_lload dX0_lowest_15 rfl ?_
    refine am_grdB (fun h6 => ?_)
    refine am_lrem dX0_lowest_17 h6 ?_
    refine am_lstore [some (am_l a0), none, some (am_l a1), none, some (am_i a2), some (am_l s1.1), none, some (am_l s1.2), none, some (am_l (jv_lrem s1.1 s1.2)), none] dX0_lowest_18 rfl (Nat.le_of_ble_eq_true rfl) rfl ?_
    refine am_lload dX0_lowest_20 rfl ?_
    refine am_lstore [some (am_l a0), none, some (am_l a1), none, some (am_i a2), some (am_l s1.2), none, some (am_l s1.2), none, some (am_l (jv_lrem s1.1 s1.2)), none] dX0_lowest_22 rfl (Nat.le_of_ble_eq_true rfl) rfl ?_
    refine am_lload dX0_lowest_24 rfl ?_
    refine am_lstore [some (am_l a0), none, some (am_l a1), none, some (am_i a2), some (am_l s1.2), none, some (am_l (jv_lrem s1.1 s1.2)), none, some (am_l (jv_lrem s1.1 s1.2)), none] dX0_lowest_26 rfl (Nat.le_of_ble_eq_true rfl) rfl ?_
    refine am_goto (tgt := 6) dX0_lowest_28 rfl ?_
    exact am_dr (hr3 (s1.2, (jv_lrem s1.1 s1.2))) (And.intro rfl (And.intro rfl (And.intro rfl (And.intro rfl (And.intro rfl trivial)))))
def fX0_cold (M : am_M) (a1 : Int32) (a2 : Int32) (a3 : Int32) (a4 : Int32) (a5 : Int32) : Option Int64 :=
(if (fX0_isGallery a1) = 0 then
some (-1000000000000000001 : Int64)
 else
(if (fX0_isIn ((a2).toInt64) (0 : Int64) (10 : Int64)) = 0 then
some (-1000000000000000002 : Int64)
 else
(if (fX0_isIn ((a3).toInt64) (0 : Int64) (9 : Int64)) = 0 then
some (-1000000000000000002 : Int64)
 else
(if (fX0_isEnd a4) = 0 then
some (-1000000000000000002 : Int64)
 else
(if (fX0_isEnd a5) = 0 then
some (-1000000000000000002 : Int64)
 else
(Option.bind (fX0_singingIn M a1) fun v1 =>
(Option.bind (fX0_times (10 : Int64) a3) fun v2 =>
(Option.bind (fX0_times ((((10 : Int32) - a2)).toInt64) a3) fun v3 =>
(if a4 = (1 : Int32) then
(Option.bind (fX0_lowest (((v1).toInt64) * v3) v2 a5) fun v4 =>
some v4)
 else
(if (a3 * v1) ≤ (18 : Int32) then
(Option.bind (fX0_times v2 v1) fun v5 =>
(Option.bind (fX0_times (v2 - v3) v1) fun v6 =>
(Option.bind (fX0_times v2 v1) fun v7 =>
(Option.bind (fX0_lowest (v5 - v6) v7 a5) fun v8 =>
some v8))))
 else
some (-1000000000000000003 : Int64)))))))))))
set_option maxHeartbeats 4000000 in
theorem kX0_cold (G : am_G) (M : am_M) (a1 : Int32) (a2 : Int32) (a3 : Int32) (a4 : Int32) (a5 : Int32) : am_C G 5 mX0_cold [am_r 0 0, am_i a1, am_i a2, am_i a3, am_i a4, am_i a5] M (fun r => (some (am_l r), M)) (fX0_cold M a1 a2 a3 a4 a5) := by
  refine am_met (nL := 11) (ls0 := [some (am_r 0 0), some (am_i a1), some (am_i a2), some (am_i a3), some (am_i a4), some (am_i a5), none, none, none, none, none]) (by decide) rfl (Nat.le_of_ble_eq_true rfl) (And.intro rfl (And.intro rfl (And.intro rfl (And.intro rfl (And.intro rfl (And.intro rfl trivial)))))) ?_
  unfold fX0_cold
  refine am_iload_n dX0_cold_0 rfl rfl ?_
  refine am_cST lc_X0_85 (kX0_isGallery G M a1) rfl rfl rfl rfl rfl dX0_cold_1 ?_
  refine am_if_ne (tgt := 11) dX0_cold_4 rfl ?_ ?_
  · refine am_ldc2 dX0_cold_7 q515 ?_
    exact am_lret dX0_cold_10 rfl rfl
  · refine am_iload_n dX0_cold_11 rfl rfl ?_
    refine am_i2l dX0_cold_12 ?_
    refine am_lconst (v := 0) dX0_cold_13 rfl ?_
    refine am_ldc2 dX0_cold_14 q516 ?_
    refine am_cST lc_X0_3 (kX0_isIn G M ((a2).toInt64) (0 : Int64) (10 : Int64)) rfl rfl rfl rfl rfl dX0_cold_17 ?_
    refine am_if_eq (tgt := 51) dX0_cold_20 rfl ?_ ?_
    · refine am_ldc2 dX0_cold_51 q517 ?_
      exact am_lret dX0_cold_54 rfl rfl
    · refine am_iload_n dX0_cold_23 rfl rfl ?_
      refine am_i2l dX0_cold_24 ?_
      refine am_lconst (v := 0) dX0_cold_25 rfl ?_
      refine am_ldc2 dX0_cold_26 q207 ?_
      refine am_cST lc_X0_3 (kX0_isIn G M ((a3).toInt64) (0 : Int64) (9 : Int64)) rfl rfl rfl rfl rfl dX0_cold_29 ?_
      refine am_if_eq (tgt := 51) dX0_cold_32 rfl ?_ ?_
      · refine am_ldc2 dX0_cold_51 q517 ?_
        exact am_lret dX0_cold_54 rfl rfl
      · refine am_iload dX0_cold_35 rfl ?_
        refine am_cST lc_X0_197 (kX0_isEnd G M a4) rfl rfl rfl rfl rfl dX0_cold_37 ?_
        refine am_if_eq (tgt := 51) dX0_cold_40 rfl ?_ ?_
        · refine am_ldc2 dX0_cold_51 q517 ?_
          exact am_lret dX0_cold_54 rfl rfl
        · refine am_iload dX0_cold_43 rfl ?_
          refine am_cST lc_X0_197 (kX0_isEnd G M a5) rfl rfl rfl rfl rfl dX0_cold_45 ?_
          refine am_if_ne (tgt := 55) dX0_cold_48 rfl ?_ ?_
          · refine am_ldc2 dX0_cold_51 q517 ?_
            exact am_lret dX0_cold_54 rfl rfl
          · refine am_aload_n dX0_cold_55 rfl rfl ?_
            refine am_iload_n dX0_cold_56 rfl rfl ?_
            refine am_cVI (as' := [am_i a1]) lc_X0_304 rfl (kX0_singingIn G M a1) rfl rfl rfl rfl rfl rfl dX0_cold_57 (fun v1 => ?_)
            refine am_istore [some (am_r 0 0), some (am_i a1), some (am_i a2), some (am_i a3), some (am_i a4), some (am_i a5), some (am_i v1), none, none, none, none] dX0_cold_60 rfl (Nat.le_of_ble_eq_true rfl) rfl ?_
            refine am_ldc2 dX0_cold_62 q516 ?_
            refine am_iload_n dX0_cold_65 rfl rfl ?_
            refine am_cSL lc_X0_307 (kX0_times G M (10 : Int64) a3) rfl rfl rfl rfl rfl dX0_cold_66 (fun v2 => ?_)
            refine am_lstore [some (am_r 0 0), some (am_i a1), some (am_i a2), some (am_i a3), some (am_i a4), some (am_i a5), some (am_i v1), some (am_l v2), none, none, none] dX0_cold_69 rfl (Nat.le_of_ble_eq_true rfl) rfl ?_
            refine am_bipush dX0_cold_71 bp_10 ?_
            refine am_iload_n dX0_cold_73 rfl rfl ?_
            refine am_isub dX0_cold_74 ?_
            refine am_i2l dX0_cold_75 ?_
            refine am_iload_n dX0_cold_76 rfl rfl ?_
            refine am_cSL lc_X0_307 (kX0_times G M ((((10 : Int32) - a2)).toInt64) a3) rfl rfl rfl rfl rfl dX0_cold_77 (fun v3 => ?_)
            refine am_lstore [some (am_r 0 0), some (am_i a1), some (am_i a2), some (am_i a3), some (am_i a4), some (am_i a5), some (am_i v1), some (am_l v2), none, some (am_l v3), none] dX0_cold_80 rfl (Nat.le_of_ble_eq_true rfl) rfl ?_
            refine am_iload dX0_cold_82 rfl ?_
            refine am_iconst dX0_cold_84 ic_1 ?_
            refine am_icmp_ne (tgt := 102) dX0_cold_85 rfl ?_ ?_
            · refine am_iload dX0_cold_88 rfl ?_
              refine am_i2l dX0_cold_90 ?_
              refine am_lload dX0_cold_91 rfl ?_
              refine am_lmul dX0_cold_93 ?_
              refine am_lload dX0_cold_94 rfl ?_
              refine am_iload dX0_cold_96 rfl ?_
              refine am_cSL lc_X0_311 (kX0_lowest G M (((v1).toInt64) * v3) v2 a5) rfl rfl rfl rfl rfl dX0_cold_98 (fun v4 => ?_)
              exact am_lret dX0_cold_101 rfl rfl
            · refine am_iload_n dX0_cold_102 rfl rfl ?_
              refine am_iload dX0_cold_103 rfl ?_
              refine am_imul dX0_cold_105 ?_
              refine am_bipush dX0_cold_106 bp_18 ?_
              refine am_icmp_le (tgt := 115) dX0_cold_108 rfl ?_ ?_
              · refine am_lload dX0_cold_115 rfl ?_
                refine am_iload dX0_cold_117 rfl ?_
                refine am_cSL lc_X0_307 (kX0_times G M v2 v1) rfl rfl rfl rfl rfl dX0_cold_119 (fun v5 => ?_)
                refine am_lload dX0_cold_122 rfl ?_
                refine am_lload dX0_cold_124 rfl ?_
                refine am_lsub dX0_cold_126 ?_
                refine am_iload dX0_cold_127 rfl ?_
                refine am_cSL lc_X0_307 (kX0_times G M (v2 - v3) v1) rfl rfl rfl rfl rfl dX0_cold_129 (fun v6 => ?_)
                refine am_lsub dX0_cold_132 ?_
                refine am_lload dX0_cold_133 rfl ?_
                refine am_iload dX0_cold_135 rfl ?_
                refine am_cSL lc_X0_307 (kX0_times G M v2 v1) rfl rfl rfl rfl rfl dX0_cold_137 (fun v7 => ?_)
                refine am_iload dX0_cold_140 rfl ?_
                refine am_cSL lc_X0_311 (kX0_lowest G M (v5 - v6) v7 a5) rfl rfl rfl rfl rfl dX0_cold_142 (fun v8 => ?_)
                exact am_lret dX0_cold_145 rfl rfl
              · refine am_ldc2 dX0_cold_111 q528 ?_
                exact am_lret dX0_cold_114 rfl rfl
def fX0_actBy (a0 : Int32) : Int32 :=
(if (3 : Int32) ≤ a0 then
(if a0 = (3 : Int32) then
(1 : Int32)
 else
(if (6 : Int32) ≤ a0 then
(if a0 = (6 : Int32) then
(3 : Int32)
 else
(4 : Int32))
 else
(2 : Int32)))
 else
(0 : Int32))
set_option maxHeartbeats 4000000 in
theorem kX0_actBy (G : am_G) (M : am_M) (a0 : Int32) : am_C G 1 mX0_actBy [am_i a0] M (fun r => (some (am_i r), M)) (some (fX0_actBy a0)) := by
  refine am_met (nL := 1) (ls0 := [some (am_i a0)]) (by decide) rfl (Nat.le_of_ble_eq_true rfl) (And.intro rfl trivial) ?_
  unfold fX0_actBy
  refine am_iload_n dX0_actBy_0 rfl rfl ?_
  refine am_iconst dX0_actBy_1 ic_3 ?_
  refine am_icmp_geS (tgt := 9) dX0_actBy_2 rfl ?_ ?_
  · refine am_iload_n dX0_actBy_9 rfl rfl ?_
    refine am_iconst dX0_actBy_10 ic_3 ?_
    refine am_icmp_neS (tgt := 18) dX0_actBy_11 rfl ?_ ?_
    · refine am_iconst dX0_actBy_14 ic_1 ?_
      refine am_goto (tgt := 39) dX0_actBy_15 rfl ?_
      exact am_iret dX0_actBy_39 rfl rfl
    · refine am_iload_n dX0_actBy_18 rfl rfl ?_
      refine am_bipush dX0_actBy_19 bp_6 ?_
      refine am_icmp_geS (tgt := 28) dX0_actBy_21 rfl ?_ ?_
      · refine am_iload_n dX0_actBy_28 rfl rfl ?_
        refine am_bipush dX0_actBy_29 bp_6 ?_
        refine am_icmp_neS (tgt := 38) dX0_actBy_31 rfl ?_ ?_
        · refine am_iconst dX0_actBy_34 ic_3 ?_
          refine am_goto (tgt := 39) dX0_actBy_35 rfl ?_
          exact am_iret dX0_actBy_39 rfl rfl
        · refine am_iconst dX0_actBy_38 ic_4 ?_
          exact am_iret dX0_actBy_39 rfl rfl
      · refine am_iconst dX0_actBy_24 ic_2 ?_
        refine am_goto (tgt := 39) dX0_actBy_25 rfl ?_
        exact am_iret dX0_actBy_39 rfl rfl
  · refine am_iconst dX0_actBy_5 ic_0 ?_
    refine am_goto (tgt := 39) dX0_actBy_6 rfl ?_
    exact am_iret dX0_actBy_39 rfl rfl
def fX0_year_L56 (a2 : Int32) (rec1 : (Int32 × Int32 × am_M) → Option (Int32 × Int32 × am_M)) (s2 : (Int32 × Int32 × am_M)) : Option (Int32 × Int32 × am_M) :=
(if a2 ≤ s2.2.1 then
some (s2.1, s2.2.1, s2.2.2)
 else
(Option.bind (some (((jv_lrem (((75 : Int64) * ((s2.1).toInt64)) + (74 : Int64)) (65537 : Int64))).toInt32)) fun v3 =>
(Option.bind (some (fX0_actBy (jv_rem (v3 / (8 : Int32)) (8 : Int32)))) fun v4 =>
(Option.bind (if v4 = 0 then
some (24 : Int32)
 else
some (10 : Int32)) fun (x5 : Int32) =>
(if x5 = 0 then none else (Option.bind (fX1_whyNot ((s2.2.2) 3) v4 (jv_rem v3 (8 : Int32)) (jv_rem (v3 / (64 : Int32)) x5)) fun v6 =>
(Option.bind (if v6 = 0 then
(Option.bind (fX1_happen s2.2.2 1 v4 (jv_rem v3 (8 : Int32)) (jv_rem (v3 / (64 : Int32)) x5)) fun M7 =>
some M7)
 else
some s2.2.2) fun (x8 : am_M) =>
rec1 (v3, (s2.2.1 + 1), x8))))))))
def fX0_year (M : am_M) (a1 : Int32) (a2 : Int32) (a3 : Int32) : Option (Int32 × am_M) :=
(if (fX0_isIn ((a1).toInt64) (0 : Int64) (9999 : Int64)) = 0 then
some ((-2 : Int32), M)
 else
(if (fX0_isIn ((a2).toInt64) (1 : Int64) (99 : Int64)) = 0 then
some ((-2 : Int32), M)
 else
(if (fX0_isIn ((a3).toInt64) (0 : Int64) (2 : Int64)) = 0 then
some ((-2 : Int32), M)
 else
(Option.bind (fX1_take M 1 0) fun M1 =>
(Option.bind (am_it (fX0_year_L56 a2) am_fuel (a1, (0 : Int32), M1)) fun (s6 : (Int32 × Int32 × am_M)) =>
(if a3 = 0 then
(Option.bind (fX1_coalInAll ((s6.2.2) 3)) fun v16 =>
some (v16, s6.2.2))
 else
(if a3 = (1 : Int32) then
(Option.bind (fX1_lamps ((s6.2.2) 3)) fun v17 =>
(Option.bind (fJ0_bitCount v17) fun v18 =>
some (v18, s6.2.2)))
 else
(Option.bind (fX1_singing ((s6.2.2) 3)) fun v19 =>
(Option.bind (fJ0_bitCount v19) fun v20 =>
some (v20, s6.2.2))))))))))
set_option maxHeartbeats 4000000 in
theorem kX0_year (G : am_G) (M : am_M) (a1 : Int32) (a2 : Int32) (a3 : Int32) : am_C G 10 mX0_year [am_r 0 0, am_i a1, am_i a2, am_i a3] M (fun r => (some (am_i r.1), r.2)) (fX0_year M a1 a2 a3) := by
  refine am_met (nL := 8) (ls0 := [some (am_r 0 0), some (am_i a1), some (am_i a2), some (am_i a3), none, none, none, none]) (by decide) rfl (Nat.le_of_ble_eq_true rfl) (And.intro rfl (And.intro rfl (And.intro rfl (And.intro rfl trivial)))) ?_
  unfold fX0_year
  refine am_iload_n dX0_year_0 rfl rfl ?_
  refine am_i2l dX0_year_1 ?_
  refine am_lconst (v := 0) dX0_year_2 rfl ?_
  refine am_ldc2 dX0_year_3 q533 ?_
  refine am_cST lc_X0_3 (kX0_isIn G M ((a1).toInt64) (0 : Int64) (9999 : Int64)) rfl rfl rfl rfl rfl dX0_year_6 ?_
  refine am_if_eq (tgt := 36) dX0_year_9 rfl ?_ ?_
  · refine am_bipush dX0_year_36 bp_m2 ?_
    exact am_iret dX0_year_38 rfl rfl
  · refine am_iload_n dX0_year_12 rfl rfl ?_
    refine am_i2l dX0_year_13 ?_
    refine am_lconst (v := 1) dX0_year_14 rfl ?_
    refine am_ldc2 dX0_year_15 q236 ?_
    refine am_cST lc_X0_3 (kX0_isIn G M ((a2).toInt64) (1 : Int64) (99 : Int64)) rfl rfl rfl rfl rfl dX0_year_18 ?_
    refine am_if_eq (tgt := 36) dX0_year_21 rfl ?_ ?_
    · refine am_bipush dX0_year_36 bp_m2 ?_
      exact am_iret dX0_year_38 rfl rfl
    · refine am_iload_n dX0_year_24 rfl rfl ?_
      refine am_i2l dX0_year_25 ?_
      refine am_lconst (v := 0) dX0_year_26 rfl ?_
      refine am_ldc2 dX0_year_27 q388 ?_
      refine am_cST lc_X0_3 (kX0_isIn G M ((a3).toInt64) (0 : Int64) (2 : Int64)) rfl rfl rfl rfl rfl dX0_year_30 ?_
      refine am_if_ne (tgt := 39) dX0_year_33 rfl ?_ ?_
      · refine am_bipush dX0_year_36 bp_m2 ?_
        exact am_iret dX0_year_38 rfl rfl
      · refine am_aload_n dX0_year_39 rfl rfl ?_
        refine am_getO (o2 := 3) lf_X0_42 rfl (by decide) dX0_year_40 ?_
        refine am_aload_n dX0_year_43 rfl rfl ?_
        refine am_getO (o2 := 2) lf_X0_38 rfl (by decide) dX0_year_44 ?_
        refine am_cVU (as' := [am_r 2 0]) lc_X0_163 rfl (kX1_take G M 1 0) rfl rfl rfl rfl rfl rfl dX0_year_47 (fun M1 => ?_)
        refine am_iload_n dX0_year_50 rfl rfl ?_
        refine am_istore [some (am_r 0 0), some (am_i a1), some (am_i a2), some (am_i a3), some (am_i a1), none, none, none] dX0_year_51 rfl (Nat.le_of_ble_eq_true rfl) rfl ?_
        refine am_iconst dX0_year_53 ic_0 ?_
        refine am_istore [some (am_r 0 0), some (am_i a1), some (am_i a2), some (am_i a3), some (am_i a1), some (am_i (0 : Int32)), none, none] dX0_year_54 rfl (Nat.le_of_ble_eq_true rfl) rfl ?_
        refine am_join (β := (Int32 × Int32 × am_M)) 154 (fun s6 => [some (am_r 0 0), none, none, some (am_i a3), none, none, none, none]) (fun _ => []) (fun s6 => s6.2.2) (fun s6 => ?_) (fun hx5 => ?_)
        · refine am_iload_n dX0_year_154 rfl rfl ?_
          refine am_if_ne (tgt := 168) dX0_year_155 rfl ?_ ?_
          · refine am_aload_n dX0_year_158 rfl rfl ?_
            refine am_getO (o2 := 3) lf_X0_42 rfl (by decide) dX0_year_159 ?_
            refine am_cVI (as' := []) lc_X0_215 rfl (kX1_coalInAll G s6.2.2 1) rfl rfl rfl rfl rfl rfl dX0_year_162 (fun v16 => ?_)
            refine am_goto (tgt := 196) dX0_year_165 rfl ?_
            exact am_iret dX0_year_196 rfl rfl
          · refine am_iload_n dX0_year_168 rfl rfl ?_
            refine am_iconst dX0_year_169 ic_1 ?_
            refine am_icmp_ne (tgt := 186) dX0_year_170 rfl ?_ ?_
            · refine am_aload_n dX0_year_173 rfl rfl ?_
              refine am_getO (o2 := 3) lf_X0_42 rfl (by decide) dX0_year_174 ?_
              refine am_cVI (as' := []) lc_X0_180 rfl (kX1_lamps G s6.2.2 1) rfl rfl rfl rfl rfl rfl dX0_year_177 (fun v17 => ?_)
              refine am_cSI lc_X0_95 (kJ0_bitCount G s6.2.2 v17) rfl rfl rfl rfl rfl dX0_year_180 (fun v18 => ?_)
              refine am_goto (tgt := 196) dX0_year_183 rfl ?_
              exact am_iret dX0_year_196 rfl rfl
            · refine am_aload_n dX0_year_186 rfl rfl ?_
              refine am_getO (o2 := 3) lf_X0_42 rfl (by decide) dX0_year_187 ?_
              refine am_cVI (as' := []) lc_X0_242 rfl (kX1_singing G s6.2.2 1) rfl rfl rfl rfl rfl rfl dX0_year_190 (fun v19 => ?_)
              refine am_cSI lc_X0_95 (kJ0_bitCount G s6.2.2 v19) rfl rfl rfl rfl rfl dX0_year_193 (fun v20 => ?_)
              exact am_iret dX0_year_196 rfl rfl
        refine am_drop (ls' := [some (am_r 0 0), none, some (am_i a2), some (am_i a3), some (am_i a1), some (am_i (0 : Int32)), none, none]) (And.intro rfl (And.intro rfl (And.intro rfl (And.intro rfl (And.intro rfl trivial))))) ?_
        refine am_loop (σ := (Int32 × Int32 × am_M)) (ls' := fun s2 => [some (am_r 0 0), none, some (am_i a2), some (am_i a3), some (am_i s2.1), some (am_i s2.2.1), none, none]) (st' := fun _ => []) (M' := fun s2 => s2.2.2) (fun rec3 hr4 s2 => ?_) _ _
        unfold fX0_year_L56
        refine am_iload dX0_year_56 rfl ?_
        refine am_iload_n dX0_year_58 rfl rfl ?_
        refine am_icmp_geB (tgt := 154) dX0_year_59 rfl ?_ ?_
        · exact am_dr (hx5 (s2.1, s2.2.1, s2.2.2)) (And.intro rfl (And.intro rfl trivial))
        · refine am_ldc2 dX0_year_62 q534 ?_
          refine am_iload dX0_year_65 rfl ?_
          refine am_i2l dX0_year_67 ?_
          refine am_lmul dX0_year_68 ?_
          refine am_ldc2 dX0_year_69 q535 ?_
          refine am_ladd dX0_year_72 ?_
          refine am_ldc2 dX0_year_73 q536 ?_
          refine am_lrem dX0_year_76 (by decide) ?_
          refine am_l2i dX0_year_77 ?_
          refine am_as ?_
          refine am_name (fun v7 => ?_)
          refine am_istore [some (am_r 0 0), none, some (am_i a2), some (am_i a3), some (am_i v7), some (am_i s2.2.1), none, none] dX0_year_78 rfl (Nat.le_of_ble_eq_true rfl) rfl ?_
          refine am_iload dX0_year_80 rfl ?_
          refine am_bipush dX0_year_82 bp_8 ?_
          refine am_idiv dX0_year_84 (by decide) ?_
          refine am_bipush dX0_year_85 bp_8 ?_
          refine am_irem dX0_year_87 (by decide) ?_
          refine am_cST lc_X0_325 (kX0_actBy G s2.2.2 (jv_rem (v7 / (8 : Int32)) (8 : Int32))) rfl rfl rfl rfl rfl dX0_year_88 ?_
          refine am_as ?_
          refine am_name (fun v8 => ?_)
          refine am_istore [some (am_r 0 0), none, some (am_i a2), some (am_i a3), some (am_i v7), some (am_i s2.2.1), some (am_i v8), none] dX0_year_91 rfl (Nat.le_of_ble_eq_true rfl) rfl ?_
          refine am_iload dX0_year_93 rfl ?_
          refine am_bipush dX0_year_95 bp_64 ?_
          refine am_idiv dX0_year_97 (by decide) ?_
          refine am_iload dX0_year_98 rfl ?_
          refine am_as ?_
          refine am_join (β := Int32) 110 (fun x9 => [some (am_r 0 0), none, some (am_i a2), some (am_i a3), some (am_i v7), some (am_i s2.2.1), some (am_i v8), none]) (fun x9 => [am_i x9, am_i (v7 / (64 : Int32))]) (fun x9 => s2.2.2) (fun x9 => ?_) (fun hm10 => ?_)
          · refine am_grdB (fun h11 => ?_)
            refine am_irem dX0_year_110 h11 ?_
            refine am_istore [some (am_r 0 0), none, some (am_i a2), some (am_i a3), some (am_i v7), some (am_i s2.2.1), some (am_i v8), some (am_i (jv_rem (v7 / (64 : Int32)) x9))] dX0_year_111 rfl (Nat.le_of_ble_eq_true rfl) rfl ?_
            refine am_aload_n dX0_year_113 rfl rfl ?_
            refine am_getO (o2 := 3) lf_X0_42 rfl (by decide) dX0_year_114 ?_
            refine am_iload dX0_year_117 rfl ?_
            refine am_iload dX0_year_119 rfl ?_
            refine am_bipush dX0_year_121 bp_8 ?_
            refine am_irem dX0_year_123 (by decide) ?_
            refine am_iload dX0_year_124 rfl ?_
            refine am_as ?_
            refine am_cVI (as' := [am_i v8, am_i (jv_rem v7 (8 : Int32)), am_i (jv_rem (v7 / (64 : Int32)) x9)]) lc_X0_176 rfl (kX1_whyNot G s2.2.2 1 v8 (jv_rem v7 (8 : Int32)) (jv_rem (v7 / (64 : Int32)) x9)) rfl rfl rfl rfl rfl rfl dX0_year_126 (fun v12 => ?_)
            refine am_as ?_
            refine am_join (β := am_M) 148 (fun x13 => [some (am_r 0 0), none, some (am_i a2), some (am_i a3), some (am_i v7), some (am_i s2.2.1), some (am_i v8), some (am_i (jv_rem (v7 / (64 : Int32)) x9))]) (fun x13 => []) (fun x13 => x13) (fun x13 => ?_) (fun hm14 => ?_)
            · refine am_iinc [some (am_r 0 0), none, some (am_i a2), some (am_i a3), some (am_i v7), some (am_i (s2.2.1 + 1)), some (am_i v8), some (am_i (jv_rem (v7 / (64 : Int32)) x9))] dX0_year_148 rfl ic_1 rfl (Nat.le_of_ble_eq_true rfl) rfl ?_
              refine am_goto (tgt := 56) dX0_year_151 rfl ?_
              exact am_dr (hr4 (v7, (s2.2.1 + 1), x13)) (And.intro rfl (And.intro rfl (And.intro rfl (And.intro rfl (And.intro rfl trivial)))))
            refine am_if_neB (tgt := 148) dX0_year_129 rfl ?_ ?_
            · refine am_aload_n dX0_year_132 rfl rfl ?_
              refine am_getO (o2 := 3) lf_X0_42 rfl (by decide) dX0_year_133 ?_
              refine am_iload dX0_year_136 rfl ?_
              refine am_iload dX0_year_138 rfl ?_
              refine am_bipush dX0_year_140 bp_8 ?_
              refine am_irem dX0_year_142 (by decide) ?_
              refine am_iload dX0_year_143 rfl ?_
              refine am_as ?_
              refine am_cVU (as' := [am_i v8, am_i (jv_rem v7 (8 : Int32)), am_i (jv_rem (v7 / (64 : Int32)) x9)]) lc_X0_184 rfl (kX1_happen G s2.2.2 1 v8 (jv_rem v7 (8 : Int32)) (jv_rem (v7 / (64 : Int32)) x9)) rfl rfl rfl rfl rfl rfl dX0_year_145 (fun M15 => ?_)
              exact hm14 M15
            · exact hm14 s2.2.2
          refine am_if_neB (tgt := 108) dX0_year_100 rfl ?_ ?_
          · refine am_bipush dX0_year_103 bp_24 ?_
            refine am_goto (tgt := 110) dX0_year_105 rfl ?_
            exact hm10 (24 : Int32)
          · refine am_bipush dX0_year_108 bp_10 ?_
            exact hm10 (10 : Int32)
