/-! walks, printed by gen/decomp.py -/
set_option maxRecDepth 100000
def fX2_hush (M : am_M) (a1 : Int32) : Option (Int32 × am_M) :=
(if (fX2_isThere (M 1) a1) = 0 then
some ((1 : Int32), M)
 else
(Option.bind (am_rd (M 1 1) 36 a1) fun v1 =>
(if 0 ≤ v1 then
(Option.bind (am_wr M 1 1 36 a1 (-6 : Int32)) fun M2 =>
some ((0 : Int32), M2))
 else
some ((3 : Int32), M))))
set_option maxHeartbeats 4000000 in
theorem kX2_hush (G : am_G) (M : am_M) (a1 : Int32) : am_C G 3 mX2_hush [am_r 1 0, am_i a1] M (fun r => (some (am_i r.1), r.2)) (fX2_hush M a1) := by
  refine am_met (nL := 2) (ls0 := [some (am_r 1 0), some (am_i a1)]) (by decide) rfl (Nat.le_of_ble_eq_true rfl) (And.intro rfl (And.intro rfl trivial)) ?_
  unfold fX2_hush
  refine am_aload_n dX2_hush_0 rfl rfl ?_
  refine am_iload_n dX2_hush_1 rfl rfl ?_
  refine am_cVT (as' := [am_i a1]) lc_X2_82 rfl (kX2_isThere G M a1) rfl rfl rfl rfl rfl rfl dX2_hush_2 ?_
  refine am_if_ne (tgt := 10) dX2_hush_5 rfl ?_ ?_
  · refine am_iconst dX2_hush_8 ic_1 ?_
    exact am_iret dX2_hush_9 rfl rfl
  · refine am_aload_n dX2_hush_10 rfl rfl ?_
    refine am_getA lf_X2_13 rfl rfl dX2_hush_11 ?_
    refine am_iload_n dX2_hush_14 rfl rfl ?_
    refine am_iald (β := Unit) rfl dX2_hush_15 (fun v1 => ?_)
    refine am_if_ge (tgt := 21) dX2_hush_16 rfl ?_ ?_
    · refine am_aload_n dX2_hush_21 rfl rfl ?_
      refine am_getA lf_X2_13 rfl rfl dX2_hush_22 ?_
      refine am_iload_n dX2_hush_25 rfl rfl ?_
      refine am_bipush dX2_hush_26 bp_m6 ?_
      refine am_iast rfl dX2_hush_28 (fun M2 => ?_)
      refine am_iconst dX2_hush_29 ic_0 ?_
      exact am_iret dX2_hush_30 rfl rfl
    · refine am_iconst dX2_hush_19 ic_3 ?_
      exact am_iret dX2_hush_20 rfl rfl
def fX2_go (M : am_M) (a1 : Int32) (a2 : Int32) : Option (Int32 × am_M) :=
(if (fX2_isThere (M 1) a1) = 0 then
some ((1 : Int32), M)
 else
(Option.bind (am_rd (M 1 1) 36 ((16 : Int32) + a1)) fun v1 =>
(Option.bind (am_rd (M 1 6) 10 v1) fun v2 =>
(if (fX2_has v2 a2) = 0 then
some ((5 : Int32), M)
 else
(Option.bind (am_rd (M 1 1) 36 (34 : Int32)) fun v3 =>
(if (fX2_has v3 v1) = 0 then
(Option.bind (am_rd (M 1 1) 36 (34 : Int32)) fun v4 =>
(if (fX2_has v4 a2) = 0 then
(Option.bind (am_wr M 1 1 36 ((16 : Int32) + a1) a2) fun M5 =>
some ((0 : Int32), M5))
 else
some ((6 : Int32), M)))
 else
some ((6 : Int32), M)))))))
set_option maxHeartbeats 4000000 in
theorem kX2_go (G : am_G) (M : am_M) (a1 : Int32) (a2 : Int32) : am_C G 3 mX2_go [am_r 1 0, am_i a1, am_i a2] M (fun r => (some (am_i r.1), r.2)) (fX2_go M a1 a2) := by
  refine am_met (nL := 4) (ls0 := [some (am_r 1 0), some (am_i a1), some (am_i a2), none]) (by decide) rfl (Nat.le_of_ble_eq_true rfl) (And.intro rfl (And.intro rfl (And.intro rfl trivial))) ?_
  unfold fX2_go
  refine am_aload_n dX2_go_0 rfl rfl ?_
  refine am_iload_n dX2_go_1 rfl rfl ?_
  refine am_cVT (as' := [am_i a1]) lc_X2_82 rfl (kX2_isThere G M a1) rfl rfl rfl rfl rfl rfl dX2_go_2 ?_
  refine am_if_ne (tgt := 10) dX2_go_5 rfl ?_ ?_
  · refine am_iconst dX2_go_8 ic_1 ?_
    exact am_iret dX2_go_9 rfl rfl
  · refine am_aload_n dX2_go_10 rfl rfl ?_
    refine am_getA lf_X2_13 rfl rfl dX2_go_11 ?_
    refine am_bipush dX2_go_14 bp_16 ?_
    refine am_iload_n dX2_go_16 rfl rfl ?_
    refine am_iadd dX2_go_17 ?_
    refine am_iald (β := Unit) rfl dX2_go_18 (fun v1 => ?_)
    refine am_istore_n [some (am_r 1 0), some (am_i a1), some (am_i a2), some (am_i v1)] dX2_go_19 rfl rfl (Nat.le_of_ble_eq_true rfl) rfl ?_
    refine am_aload_n dX2_go_20 rfl rfl ?_
    refine am_getA lf_X2_25 rfl rfl dX2_go_21 ?_
    refine am_iload_n dX2_go_24 rfl rfl ?_
    refine am_iald (β := Unit) rfl dX2_go_25 (fun v2 => ?_)
    refine am_iload_n dX2_go_26 rfl rfl ?_
    refine am_cST lc_X2_67 (kX2_has G M v2 a2) rfl rfl rfl rfl rfl dX2_go_27 ?_
    refine am_if_ne (tgt := 35) dX2_go_30 rfl ?_ ?_
    · refine am_iconst dX2_go_33 ic_5 ?_
      exact am_iret dX2_go_34 rfl rfl
    · refine am_aload_n dX2_go_35 rfl rfl ?_
      refine am_getA lf_X2_13 rfl rfl dX2_go_36 ?_
      refine am_bipush dX2_go_39 bp_34 ?_
      refine am_iald (β := Unit) rfl dX2_go_41 (fun v3 => ?_)
      refine am_iload_n dX2_go_42 rfl rfl ?_
      refine am_cST lc_X2_67 (kX2_has G M v3 v1) rfl rfl rfl rfl rfl dX2_go_43 ?_
      refine am_if_ne (tgt := 63) dX2_go_46 rfl ?_ ?_
      · refine am_aload_n dX2_go_49 rfl rfl ?_
        refine am_getA lf_X2_13 rfl rfl dX2_go_50 ?_
        refine am_bipush dX2_go_53 bp_34 ?_
        refine am_iald (β := Unit) rfl dX2_go_55 (fun v4 => ?_)
        refine am_iload_n dX2_go_56 rfl rfl ?_
        refine am_cST lc_X2_67 (kX2_has G M v4 a2) rfl rfl rfl rfl rfl dX2_go_57 ?_
        refine am_if_eq (tgt := 66) dX2_go_60 rfl ?_ ?_
        · refine am_aload_n dX2_go_66 rfl rfl ?_
          refine am_getA lf_X2_13 rfl rfl dX2_go_67 ?_
          refine am_bipush dX2_go_70 bp_16 ?_
          refine am_iload_n dX2_go_72 rfl rfl ?_
          refine am_iadd dX2_go_73 ?_
          refine am_iload_n dX2_go_74 rfl rfl ?_
          refine am_iast rfl dX2_go_75 (fun M5 => ?_)
          refine am_iconst dX2_go_76 ic_0 ?_
          exact am_iret dX2_go_77 rfl rfl
        · refine am_bipush dX2_go_63 bp_6 ?_
          exact am_iret dX2_go_65 rfl rfl
      · refine am_bipush dX2_go_63 bp_6 ?_
        exact am_iret dX2_go_65 rfl rfl
def fX2_sing (M : am_M) (a1 : Int32) (a2 : Int32) : Option (Int32 × am_M) :=
(if (fX2_isThere (M 1) a1) = 0 then
some ((1 : Int32), M)
 else
(Option.bind (am_rd (M 1 3) 8 a1) fun v1 =>
(Option.bind (am_rd (M 1 4) 8 a1) fun v2 =>
(if (fX2_in a2 v1 v2) = 0 then
some ((2 : Int32), M)
 else
(Option.bind (am_rd (M 1 1) 36 a1) fun v3 =>
(if v3 = a2 then
some ((3 : Int32), M)
 else
(Option.bind (am_rd (M 1 1) 36 ((8 : Int32) + a1)) fun v4 =>
(if v4 = 0 then
some ((4 : Int32), M)
 else
(Option.bind (am_wr M 1 1 36 a1 a2) fun M5 =>
some ((0 : Int32), M5))))))))))
set_option maxHeartbeats 4000000 in
theorem kX2_sing (G : am_G) (M : am_M) (a1 : Int32) (a2 : Int32) : am_C G 3 mX2_sing [am_r 1 0, am_i a1, am_i a2] M (fun r => (some (am_i r.1), r.2)) (fX2_sing M a1 a2) := by
  refine am_met (nL := 3) (ls0 := [some (am_r 1 0), some (am_i a1), some (am_i a2)]) (by decide) rfl (Nat.le_of_ble_eq_true rfl) (And.intro rfl (And.intro rfl (And.intro rfl trivial))) ?_
  unfold fX2_sing
  refine am_aload_n dX2_sing_0 rfl rfl ?_
  refine am_iload_n dX2_sing_1 rfl rfl ?_
  refine am_cVT (as' := [am_i a1]) lc_X2_82 rfl (kX2_isThere G M a1) rfl rfl rfl rfl rfl rfl dX2_sing_2 ?_
  refine am_if_ne (tgt := 10) dX2_sing_5 rfl ?_ ?_
  · refine am_iconst dX2_sing_8 ic_1 ?_
    exact am_iret dX2_sing_9 rfl rfl
  · refine am_iload_n dX2_sing_10 rfl rfl ?_
    refine am_aload_n dX2_sing_11 rfl rfl ?_
    refine am_getA lf_X2_16 rfl rfl dX2_sing_12 ?_
    refine am_iload_n dX2_sing_15 rfl rfl ?_
    refine am_iald (β := Unit) rfl dX2_sing_16 (fun v1 => ?_)
    refine am_aload_n dX2_sing_17 rfl rfl ?_
    refine am_getA lf_X2_19 rfl rfl dX2_sing_18 ?_
    refine am_iload_n dX2_sing_21 rfl rfl ?_
    refine am_iald (β := Unit) rfl dX2_sing_22 (fun v2 => ?_)
    refine am_cST lc_X2_59 (kX2_in G M a2 v1 v2) rfl rfl rfl rfl rfl dX2_sing_23 ?_
    refine am_if_ne (tgt := 31) dX2_sing_26 rfl ?_ ?_
    · refine am_iconst dX2_sing_29 ic_2 ?_
      exact am_iret dX2_sing_30 rfl rfl
    · refine am_aload_n dX2_sing_31 rfl rfl ?_
      refine am_getA lf_X2_13 rfl rfl dX2_sing_32 ?_
      refine am_iload_n dX2_sing_35 rfl rfl ?_
      refine am_iald (β := Unit) rfl dX2_sing_36 (fun v3 => ?_)
      refine am_iload_n dX2_sing_37 rfl rfl ?_
      refine am_icmp_ne (tgt := 43) dX2_sing_38 rfl ?_ ?_
      · refine am_iconst dX2_sing_41 ic_3 ?_
        exact am_iret dX2_sing_42 rfl rfl
      · refine am_aload_n dX2_sing_43 rfl rfl ?_
        refine am_getA lf_X2_13 rfl rfl dX2_sing_44 ?_
        refine am_bipush dX2_sing_47 bp_8 ?_
        refine am_iload_n dX2_sing_49 rfl rfl ?_
        refine am_iadd dX2_sing_50 ?_
        refine am_iald (β := Unit) rfl dX2_sing_51 (fun v4 => ?_)
        refine am_if_ne (tgt := 57) dX2_sing_52 rfl ?_ ?_
        · refine am_iconst dX2_sing_55 ic_4 ?_
          exact am_iret dX2_sing_56 rfl rfl
        · refine am_aload_n dX2_sing_57 rfl rfl ?_
          refine am_getA lf_X2_13 rfl rfl dX2_sing_58 ?_
          refine am_iload_n dX2_sing_61 rfl rfl ?_
          refine am_iload_n dX2_sing_62 rfl rfl ?_
          refine am_iast rfl dX2_sing_63 (fun M5 => ?_)
          refine am_iconst dX2_sing_64 ic_0 ?_
          exact am_iret dX2_sing_65 rfl rfl
def fX2_goShifts_L201 (s1 : (Int32 × Int32 × am_M)) (v2 : Int32) (rec3 : (Int32 × am_M) → Option (Int32 × am_M)) (s4 : (Int32 × am_M)) : Option (Int32 × am_M) :=
(if (10 : Int32) ≤ s4.1 then
some (s4.1, s4.2)
 else
(if 0 ≤ ((s4.2) 1 13 0) then
some (s4.1, s4.2)
 else
(Option.bind (if (fX2_has (s1.2.1 &&& (v2 ^^^ (-1 : Int32))) s4.1) = 0 then
some s4.2
 else
some (am_put (am_put s4.2 1 13 ((s4.2) 1 17 0)) 1 14 s4.1)) fun (x5 : am_M) =>
rec3 ((s4.1 + 1), x5))))
def fX2_goShifts_L16  (rec1 : (Int32 × Int32 × am_M) → Option ((Int32 × am_M) ⊕ (Int32 × Int32 × am_M))) (s2 : (Int32 × Int32 × am_M)) : Option ((Int32 × am_M) ⊕ (Int32 × Int32 × am_M)) :=
(if ((s2.2.2) 1 11 0) ≤ s2.1 then
some (.inr (s2.1, s2.2.1, s2.2.2))
 else
(Option.bind (am_rd ((s2.2.2) 1 12) 60 s2.1) fun v3 =>
(Option.bind (if v3 = (46 : Int32) then
(Option.bind (fX2_beat (am_put s2.2.2 1 16 (0 : Int32))) fun r4 =>
some ((s2.1 + 1), (am_put r4.2 1 16 r4.1)))
 else
(if v3 = (42 : Int32) then
(Option.bind (am_rd ((am_put s2.2.2 1 16 (0 : Int32)) 1 1) 36 (34 : Int32)) fun v5 =>
(Option.bind (am_rd ((am_put s2.2.2 1 16 (0 : Int32)) 1 12) 60 (s2.1 + (1 : Int32))) fun v6 =>
(Option.bind (am_wr (am_put s2.2.2 1 16 (0 : Int32)) 1 1 36 (34 : Int32) (v5 ^^^ ((1 : Int32) <<< ((v6 - (48 : Int32)) &&& 31)))) fun M7 =>
some ((s2.1 + 2), M7))))
 else
(Option.bind (am_rd ((am_put s2.2.2 1 16 (0 : Int32)) 1 12) 60 (s2.1 + (1 : Int32))) fun v8 =>
(Option.bind (if v8 = (45 : Int32) then
(Option.bind (fX2_hush (am_put s2.2.2 1 16 (0 : Int32)) (v3 - (65 : Int32))) fun r9 =>
some (r9.1, r9.2))
 else
(if v8 = (62 : Int32) then
(Option.bind (am_rd ((am_put s2.2.2 1 16 (0 : Int32)) 1 12) 60 (s2.1 + (2 : Int32))) fun v10 =>
(Option.bind (fX2_go (am_put s2.2.2 1 16 (0 : Int32)) (v3 - (65 : Int32)) (v10 - (48 : Int32))) fun r11 =>
some (r11.1, r11.2)))
 else
(Option.bind (fX2_sing (am_put s2.2.2 1 16 (0 : Int32)) (v3 - (65 : Int32)) (v8 - (97 : Int32))) fun r12 =>
some (r12.1, r12.2)))) fun (x13 : (Int32 × am_M)) =>
(Option.bind (if v8 = (62 : Int32) then
some (3 : Int32)
 else
some (2 : Int32)) fun (x14 : Int32) =>
some ((s2.1 + x14), (am_put x13.2 1 16 x13.1))))))) fun (x15 : (Int32 × am_M)) =>
(if ((x15.2) 1 16 0) ≤ 0 then
(Option.bind (fX2_lamps ((x15.2) 1)) fun v16 =>
(Option.bind (am_it (fX2_goShifts_L201 s2 v16) am_fuel ((0 : Int32), x15.2)) fun (s17 : (Int32 × am_M)) =>
rec1 (x15.1, v16, (am_put s17.2 1 17 (((s17.2) 1 17 0) + (1 : Int32))))))
 else
some (.inl (((x15.2) 1 17 0), x15.2))))))
def fX2_goShifts (M : am_M) : Option (Int32 × am_M) :=
(Option.bind (fX2_asNow M) fun M1 =>
(Option.bind (fX2_lamps ((am_put M1 1 17 (0 : Int32)) 1)) fun v2 =>
(Option.bind (am_it fX2_goShifts_L16 am_fuel ((0 : Int32), v2, (am_put M1 1 17 (0 : Int32)))) (Sum.elim some fun (s7 : (Int32 × Int32 × am_M)) =>
some ((-6 : Int32), s7.2.2)))))
set_option maxHeartbeats 4000000 in
theorem kX2_goShifts (G : am_G) (M : am_M)  : am_C G 7 mX2_goShifts [am_r 1 0] M (fun r => (some (am_i r.1), r.2)) (fX2_goShifts M) := by
  refine am_met (nL := 6) (ls0 := [some (am_r 1 0), none, none, none, none, none]) (by decide) rfl (Nat.le_of_ble_eq_true rfl) (And.intro rfl trivial) ?_
  unfold fX2_goShifts
  refine am_aload_n dX2_goShifts_0 rfl rfl ?_
  refine am_cVU (as' := []) lc_X2_110 rfl (kX2_asNow G M) rfl rfl rfl rfl rfl rfl dX2_goShifts_1 (fun M1 => ?_)
  refine am_aload_n dX2_goShifts_4 rfl rfl ?_
  refine am_iconst dX2_goShifts_5 ic_0 ?_
  refine am_putf lf_X2_113 rfl rfl dX2_goShifts_6 ?_
  refine am_iconst dX2_goShifts_9 ic_0 ?_
  refine am_istore_n [some (am_r 1 0), some (am_i (0 : Int32)), none, none, none, none] dX2_goShifts_10 rfl rfl (Nat.le_of_ble_eq_true rfl) rfl ?_
  refine am_aload_n dX2_goShifts_11 rfl rfl ?_
  refine am_cVI (as' := []) lc_X2_116 rfl (kX2_lamps G (am_put M1 1 17 (0 : Int32))) rfl rfl rfl rfl rfl rfl dX2_goShifts_12 (fun v2 => ?_)
  refine am_istore_n [some (am_r 1 0), some (am_i (0 : Int32)), some (am_i v2), none, none, none] dX2_goShifts_15 rfl rfl (Nat.le_of_ble_eq_true rfl) rfl ?_
  refine am_joinR (S := (Int32 × Int32 × am_M)) 265 (fun s7 => [none, none, none, none, none, none]) (fun _ => []) (fun s7 => s7.2.2) (fun s7 => ?_) (fun hx6 => ?_)
  · refine am_bipush dX2_goShifts_265 bp_m6 ?_
    exact am_iret dX2_goShifts_267 rfl rfl
  refine am_loop (σ := (Int32 × Int32 × am_M)) (ls' := fun s3 => [some (am_r 1 0), some (am_i s3.1), some (am_i s3.2.1), none, none, none]) (st' := fun _ => []) (M' := fun s3 => s3.2.2) (fun rec4 hr5 s3 => ?_) _ _
  unfold fX2_goShifts_L16
  refine am_iload_n dX2_goShifts_16 rfl rfl ?_
  refine am_aload_n dX2_goShifts_17 rfl rfl ?_
  refine am_get lf_X2_85 rfl rfl dX2_goShifts_18 ?_
  refine am_icmp_geB (tgt := 265) dX2_goShifts_21 rfl ?_ ?_
  · exact am_dr (hx6 (s3.1, s3.2.1, s3.2.2)) trivial
  · refine am_aload_n dX2_goShifts_24 rfl rfl ?_
    refine am_getA lf_X2_34 rfl rfl dX2_goShifts_25 ?_
    refine am_iload_n dX2_goShifts_28 rfl rfl ?_
    refine am_as ?_
    refine am_iald (β := Unit) rfl dX2_goShifts_29 (fun v8 => ?_)
    refine am_istore_n [some (am_r 1 0), some (am_i s3.1), some (am_i s3.2.1), some (am_i v8), none, none] dX2_goShifts_30 rfl rfl (Nat.le_of_ble_eq_true rfl) rfl ?_
    refine am_aload_n dX2_goShifts_31 rfl rfl ?_
    refine am_iconst dX2_goShifts_32 ic_0 ?_
    refine am_putf lf_X2_119 rfl rfl dX2_goShifts_33 ?_
    refine am_iload_n dX2_goShifts_36 rfl rfl ?_
    refine am_bipush dX2_goShifts_37 bp_46 ?_
    refine am_as ?_
    refine am_join (β := (Int32 × am_M)) 180 (fun x9 => [some (am_r 1 0), some (am_i x9.1), some (am_i s3.2.1), some (am_i v8), none, none]) (fun x9 => []) (fun x9 => x9.2) (fun x9 => ?_) (fun hm10 => ?_)
    · refine am_aload_n dX2_goShifts_180 rfl rfl ?_
      refine am_get lf_X2_119 rfl rfl dX2_goShifts_181 ?_
      refine am_if_leB (tgt := 192) dX2_goShifts_184 rfl ?_ ?_
      · refine am_aload_n dX2_goShifts_192 rfl rfl ?_
        refine am_as ?_
        refine am_cVI (as' := []) lc_X2_116 rfl (kX2_lamps G x9.2) rfl rfl rfl rfl rfl rfl dX2_goShifts_193 (fun v24 => ?_)
        refine am_istore [some (am_r 1 0), some (am_i x9.1), some (am_i s3.2.1), some (am_i v8), some (am_i v24), none] dX2_goShifts_196 rfl (Nat.le_of_ble_eq_true rfl) rfl ?_
        refine am_iconst dX2_goShifts_198 ic_0 ?_
        refine am_istore [some (am_r 1 0), some (am_i x9.1), some (am_i s3.2.1), some (am_i v8), some (am_i v24), some (am_i (0 : Int32))] dX2_goShifts_199 rfl (Nat.le_of_ble_eq_true rfl) rfl ?_
        refine am_as ?_
        refine am_join (β := (Int32 × am_M)) 249 (fun s29 => [some (am_r 1 0), some (am_i x9.1), none, none, some (am_i v24), none]) (fun _ => []) (fun s29 => s29.2) (fun s29 => ?_) (fun hx28 => ?_)
        · refine am_iload dX2_goShifts_249 rfl ?_
          refine am_istore_n [some (am_r 1 0), some (am_i x9.1), some (am_i v24), none, some (am_i v24), none] dX2_goShifts_251 rfl rfl (Nat.le_of_ble_eq_true rfl) rfl ?_
          refine am_aload_n dX2_goShifts_252 rfl rfl ?_
          refine am_dup dX2_goShifts_253 rfl ?_
          refine am_get lf_X2_113 rfl rfl dX2_goShifts_254 ?_
          refine am_iconst dX2_goShifts_257 ic_1 ?_
          refine am_iadd dX2_goShifts_258 ?_
          refine am_putf lf_X2_113 rfl rfl dX2_goShifts_259 ?_
          refine am_goto (tgt := 16) dX2_goShifts_262 rfl ?_
          exact am_dr (hr5 (x9.1, v24, (am_put s29.2 1 17 (((s29.2) 1 17 0) + (1 : Int32))))) (And.intro rfl (And.intro rfl (And.intro rfl trivial)))
        refine am_drop (ls' := [some (am_r 1 0), some (am_i x9.1), some (am_i s3.2.1), none, some (am_i v24), some (am_i (0 : Int32))]) (And.intro rfl (And.intro rfl (And.intro rfl (And.intro rfl (And.intro rfl trivial))))) ?_
        refine am_loop (σ := (Int32 × am_M)) (ls' := fun s25 => [some (am_r 1 0), some (am_i x9.1), some (am_i s3.2.1), none, some (am_i v24), some (am_i s25.1)]) (st' := fun _ => []) (M' := fun s25 => s25.2) (fun rec26 hr27 s25 => ?_) _ _
        unfold fX2_goShifts_L201
        refine am_iload dX2_goShifts_201 rfl ?_
        refine am_bipush dX2_goShifts_203 bp_10 ?_
        refine am_icmp_geB (tgt := 249) dX2_goShifts_205 rfl ?_ ?_
        · exact am_dr (hx28 (s25.1, s25.2)) (And.intro rfl (And.intro rfl (And.intro rfl trivial)))
        · refine am_aload_n dX2_goShifts_208 rfl rfl ?_
          refine am_get lf_X2_104 rfl rfl dX2_goShifts_209 ?_
          refine am_if_geB (tgt := 249) dX2_goShifts_212 rfl ?_ ?_
          · exact am_dr (hx28 (s25.1, s25.2)) (And.intro rfl (And.intro rfl (And.intro rfl trivial)))
          · refine am_iload_n dX2_goShifts_215 rfl rfl ?_
            refine am_iload dX2_goShifts_216 rfl ?_
            refine am_iconst dX2_goShifts_218 ic_m1 ?_
            refine am_ixor dX2_goShifts_219 ?_
            refine am_iand dX2_goShifts_220 ?_
            refine am_iload dX2_goShifts_221 rfl ?_
            refine am_cST lc_X2_67 (kX2_has G s25.2 (s3.2.1 &&& (v24 ^^^ (-1 : Int32))) s25.1) rfl rfl rfl rfl rfl dX2_goShifts_223 ?_
            refine am_as ?_
            refine am_join (β := am_M) 243 (fun x30 => [some (am_r 1 0), some (am_i x9.1), some (am_i s3.2.1), none, some (am_i v24), some (am_i s25.1)]) (fun x30 => []) (fun x30 => x30) (fun x30 => ?_) (fun hm31 => ?_)
            · refine am_iinc [some (am_r 1 0), some (am_i x9.1), some (am_i s3.2.1), none, some (am_i v24), some (am_i (s25.1 + 1))] dX2_goShifts_243 rfl ic_1 rfl (Nat.le_of_ble_eq_true rfl) rfl ?_
              refine am_goto (tgt := 201) dX2_goShifts_246 rfl ?_
              exact hr27 ((s25.1 + 1), x30)
            refine am_if_eqB (tgt := 243) dX2_goShifts_226 rfl ?_ ?_
            · exact hm31 s25.2
            · refine am_aload_n dX2_goShifts_229 rfl rfl ?_
              refine am_aload_n dX2_goShifts_230 rfl rfl ?_
              refine am_get lf_X2_113 rfl rfl dX2_goShifts_231 ?_
              refine am_putf lf_X2_104 rfl rfl dX2_goShifts_234 ?_
              refine am_aload_n dX2_goShifts_237 rfl rfl ?_
              refine am_iload dX2_goShifts_238 rfl ?_
              refine am_putf lf_X2_107 rfl rfl dX2_goShifts_240 ?_
              exact hm31 (am_put (am_put s25.2 1 13 ((s25.2) 1 17 0)) 1 14 s25.1)
      · refine am_aload_n dX2_goShifts_187 rfl rfl ?_
        refine am_get lf_X2_113 rfl rfl dX2_goShifts_188 ?_
        show am_R _ _ _ _ _ _ _ _ (some (((x9.2) 1 17 0), x9.2))
        exact am_iret dX2_goShifts_191 rfl rfl
    refine am_icmp_neB (tgt := 56) dX2_goShifts_39 rfl ?_ ?_
    · refine am_aload_n dX2_goShifts_42 rfl rfl ?_
      refine am_aload_n dX2_goShifts_43 rfl rfl ?_
      refine am_as ?_
      refine am_cVX (as' := []) lc_X2_122 rfl (kX2_beat G (am_put s3.2.2 1 16 (0 : Int32))) rfl rfl rfl rfl rfl rfl dX2_goShifts_44 (fun r11 => ?_)
      refine am_putf lf_X2_119 rfl rfl dX2_goShifts_47 ?_
      refine am_iinc [some (am_r 1 0), some (am_i (s3.1 + 1)), some (am_i s3.2.1), some (am_i v8), none, none] dX2_goShifts_50 rfl ic_1 rfl (Nat.le_of_ble_eq_true rfl) rfl ?_
      refine am_goto (tgt := 180) dX2_goShifts_53 rfl ?_
      exact hm10 ((s3.1 + 1), (am_put r11.2 1 16 r11.1))
    · refine am_iload_n dX2_goShifts_56 rfl rfl ?_
      refine am_bipush dX2_goShifts_57 bp_42 ?_
      refine am_icmp_neB (tgt := 91) dX2_goShifts_59 rfl ?_ ?_
      · refine am_aload_n dX2_goShifts_62 rfl rfl ?_
        refine am_getA lf_X2_13 rfl rfl dX2_goShifts_63 ?_
        refine am_bipush dX2_goShifts_66 bp_34 ?_
        refine am_dup2 dX2_goShifts_68 rfl rfl ?_
        refine am_as ?_
        refine am_iald (β := Unit) rfl dX2_goShifts_69 (fun v12 => ?_)
        refine am_iconst dX2_goShifts_70 ic_1 ?_
        refine am_aload_n dX2_goShifts_71 rfl rfl ?_
        refine am_getA lf_X2_34 rfl rfl dX2_goShifts_72 ?_
        refine am_iload_n dX2_goShifts_75 rfl rfl ?_
        refine am_iconst dX2_goShifts_76 ic_1 ?_
        refine am_iadd dX2_goShifts_77 ?_
        refine am_as ?_
        refine am_iald (β := Unit) rfl dX2_goShifts_78 (fun v13 => ?_)
        refine am_bipush dX2_goShifts_79 bp_48 ?_
        refine am_isub dX2_goShifts_81 ?_
        refine am_ishl dX2_goShifts_82 ?_
        refine am_ixor dX2_goShifts_83 ?_
        refine am_as ?_
        refine am_iast rfl dX2_goShifts_84 (fun M14 => ?_)
        refine am_iinc [some (am_r 1 0), some (am_i (s3.1 + 2)), some (am_i s3.2.1), some (am_i v8), none, none] dX2_goShifts_85 rfl ic_2 rfl (Nat.le_of_ble_eq_true rfl) rfl ?_
        refine am_goto (tgt := 180) dX2_goShifts_88 rfl ?_
        exact hm10 ((s3.1 + 2), M14)
      · refine am_aload_n dX2_goShifts_91 rfl rfl ?_
        refine am_getA lf_X2_34 rfl rfl dX2_goShifts_92 ?_
        refine am_iload_n dX2_goShifts_95 rfl rfl ?_
        refine am_iconst dX2_goShifts_96 ic_1 ?_
        refine am_iadd dX2_goShifts_97 ?_
        refine am_as ?_
        refine am_iald (β := Unit) rfl dX2_goShifts_98 (fun v15 => ?_)
        refine am_istore [some (am_r 1 0), some (am_i s3.1), some (am_i s3.2.1), some (am_i v8), some (am_i v15), none] dX2_goShifts_99 rfl (Nat.le_of_ble_eq_true rfl) rfl ?_
        refine am_aload_n dX2_goShifts_101 rfl rfl ?_
        refine am_iload dX2_goShifts_102 rfl ?_
        refine am_bipush dX2_goShifts_104 bp_45 ?_
        refine am_as ?_
        refine am_join (β := (Int32 × am_M)) 162 (fun x16 => [some (am_r 1 0), some (am_i s3.1), some (am_i s3.2.1), some (am_i v8), some (am_i v15), none]) (fun x16 => [am_i x16.1, am_r 1 0]) (fun x16 => x16.2) (fun x16 => ?_) (fun hm17 => ?_)
        · refine am_putf lf_X2_119 rfl rfl dX2_goShifts_162 ?_
          refine am_iload_n dX2_goShifts_165 rfl rfl ?_
          refine am_iload dX2_goShifts_166 rfl ?_
          refine am_bipush dX2_goShifts_168 bp_62 ?_
          refine am_as ?_
          refine am_join (β := Int32) 178 (fun x22 => [some (am_r 1 0), some (am_i s3.1), some (am_i s3.2.1), some (am_i v8), some (am_i v15), none]) (fun x22 => [am_i x22, am_i s3.1]) (fun x22 => (am_put x16.2 1 16 x16.1)) (fun x22 => ?_) (fun hm23 => ?_)
          · refine am_iadd dX2_goShifts_178 ?_
            refine am_istore_n [some (am_r 1 0), some (am_i (s3.1 + x22)), some (am_i s3.2.1), some (am_i v8), some (am_i v15), none] dX2_goShifts_179 rfl rfl (Nat.le_of_ble_eq_true rfl) rfl ?_
            exact am_dr (hm10 ((s3.1 + x22), (am_put x16.2 1 16 x16.1))) (And.intro rfl (And.intro rfl (And.intro rfl (And.intro rfl trivial))))
          refine am_icmp_neB (tgt := 177) dX2_goShifts_170 rfl ?_ ?_
          · refine am_iconst dX2_goShifts_173 ic_3 ?_
            refine am_goto (tgt := 178) dX2_goShifts_174 rfl ?_
            exact hm23 (3 : Int32)
          · refine am_iconst dX2_goShifts_177 ic_2 ?_
            exact hm23 (2 : Int32)
        refine am_icmp_neB (tgt := 120) dX2_goShifts_106 rfl ?_ ?_
        · refine am_aload_n dX2_goShifts_109 rfl rfl ?_
          refine am_iload_n dX2_goShifts_110 rfl rfl ?_
          refine am_bipush dX2_goShifts_111 bp_65 ?_
          refine am_isub dX2_goShifts_113 ?_
          refine am_as ?_
          refine am_cVX (as' := [am_i (v8 - (65 : Int32))]) lc_X2_125 rfl (kX2_hush G (am_put s3.2.2 1 16 (0 : Int32)) (v8 - (65 : Int32))) rfl rfl rfl rfl rfl rfl dX2_goShifts_114 (fun r18 => ?_)
          refine am_goto (tgt := 162) dX2_goShifts_117 rfl ?_
          exact hm17 (r18.1, r18.2)
        · refine am_iload dX2_goShifts_120 rfl ?_
          refine am_bipush dX2_goShifts_122 bp_62 ?_
          refine am_icmp_neB (tgt := 149) dX2_goShifts_124 rfl ?_ ?_
          · refine am_aload_n dX2_goShifts_127 rfl rfl ?_
            refine am_iload_n dX2_goShifts_128 rfl rfl ?_
            refine am_bipush dX2_goShifts_129 bp_65 ?_
            refine am_isub dX2_goShifts_131 ?_
            refine am_aload_n dX2_goShifts_132 rfl rfl ?_
            refine am_getA lf_X2_34 rfl rfl dX2_goShifts_133 ?_
            refine am_iload_n dX2_goShifts_136 rfl rfl ?_
            refine am_iconst dX2_goShifts_137 ic_2 ?_
            refine am_iadd dX2_goShifts_138 ?_
            refine am_as ?_
            refine am_iald (β := Unit) rfl dX2_goShifts_139 (fun v19 => ?_)
            refine am_bipush dX2_goShifts_140 bp_48 ?_
            refine am_isub dX2_goShifts_142 ?_
            refine am_as ?_
            refine am_cVX (as' := [am_i (v8 - (65 : Int32)), am_i (v19 - (48 : Int32))]) lc_X2_128 rfl (kX2_go G (am_put s3.2.2 1 16 (0 : Int32)) (v8 - (65 : Int32)) (v19 - (48 : Int32))) rfl rfl rfl rfl rfl rfl dX2_goShifts_143 (fun r20 => ?_)
            refine am_goto (tgt := 162) dX2_goShifts_146 rfl ?_
            exact hm17 (r20.1, r20.2)
          · refine am_aload_n dX2_goShifts_149 rfl rfl ?_
            refine am_iload_n dX2_goShifts_150 rfl rfl ?_
            refine am_bipush dX2_goShifts_151 bp_65 ?_
            refine am_isub dX2_goShifts_153 ?_
            refine am_iload dX2_goShifts_154 rfl ?_
            refine am_bipush dX2_goShifts_156 bp_97 ?_
            refine am_isub dX2_goShifts_158 ?_
            refine am_as ?_
            refine am_cVX (as' := [am_i (v8 - (65 : Int32)), am_i (v15 - (97 : Int32))]) lc_X2_132 rfl (kX2_sing G (am_put s3.2.2 1 16 (0 : Int32)) (v8 - (65 : Int32)) (v15 - (97 : Int32))) rfl rfl rfl rfl rfl rfl dX2_goShifts_159 (fun r21 => ?_)
            exact hm17 (r21.1, r21.2)
def fX2_judge (M : am_M) (a1 : Int32) : Option (Int32 × am_M) :=
(if (fX2_in a1 (0 : Int32) (1 : Int32)) = 0 then
some ((-2 : Int32), M)
 else
(Option.bind (fX2_faultOf (M 1)) fun v1 =>
(if v1 < 0 then
(Option.bind (fX2_goShifts M) fun r2 =>
(if r2.1 < 0 then
some (r2.1, r2.2)
 else
(if a1 = 0 then
some (r2.1, r2.2)
 else
some (((r2.2) 1 16 0), r2.2))))
 else
some ((-5 : Int32), M))))
set_option maxHeartbeats 4000000 in
theorem kX2_judge (G : am_G) (M : am_M) (a1 : Int32) : am_C G 8 mX2_judge [am_r 1 0, am_i a1] M (fun r => (some (am_i r.1), r.2)) (fX2_judge M a1) := by
  refine am_met (nL := 3) (ls0 := [some (am_r 1 0), some (am_i a1), none]) (by decide) rfl (Nat.le_of_ble_eq_true rfl) (And.intro rfl (And.intro rfl trivial)) ?_
  unfold fX2_judge
  refine am_iload_n dX2_judge_0 rfl rfl ?_
  refine am_iconst dX2_judge_1 ic_0 ?_
  refine am_iconst dX2_judge_2 ic_1 ?_
  refine am_cST lc_X2_59 (kX2_in G M a1 (0 : Int32) (1 : Int32)) rfl rfl rfl rfl rfl dX2_judge_3 ?_
  refine am_if_ne (tgt := 12) dX2_judge_6 rfl ?_ ?_
  · refine am_bipush dX2_judge_9 bp_m2 ?_
    exact am_iret dX2_judge_11 rfl rfl
  · refine am_aload_n dX2_judge_12 rfl rfl ?_
    refine am_cVI (as' := []) lc_X2_88 rfl (kX2_faultOf G M) rfl rfl rfl rfl rfl rfl dX2_judge_13 (fun v1 => ?_)
    refine am_if_lt (tgt := 22) dX2_judge_16 rfl ?_ ?_
    · refine am_aload_n dX2_judge_22 rfl rfl ?_
      refine am_cVX (as' := []) lc_X2_135 rfl (kX2_goShifts G M) rfl rfl rfl rfl rfl rfl dX2_judge_23 (fun r2 => ?_)
      refine am_istore_n [some (am_r 1 0), some (am_i a1), some (am_i r2.1)] dX2_judge_26 rfl rfl (Nat.le_of_ble_eq_true rfl) rfl ?_
      refine am_iload_n dX2_judge_27 rfl rfl ?_
      refine am_if_lt (tgt := 35) dX2_judge_28 rfl ?_ ?_
      · refine am_iload_n dX2_judge_35 rfl rfl ?_
        refine am_goto (tgt := 43) dX2_judge_36 rfl ?_
        exact am_iret dX2_judge_43 rfl rfl
      · refine am_iload_n dX2_judge_31 rfl rfl ?_
        refine am_if_ne (tgt := 39) dX2_judge_32 rfl ?_ ?_
        · refine am_iload_n dX2_judge_35 rfl rfl ?_
          refine am_goto (tgt := 43) dX2_judge_36 rfl ?_
          exact am_iret dX2_judge_43 rfl rfl
        · refine am_aload_n dX2_judge_39 rfl rfl ?_
          refine am_get lf_X2_119 rfl rfl dX2_judge_40 ?_
          exact am_iret dX2_judge_43 rfl rfl
    · refine am_bipush dX2_judge_19 bp_m5 ?_
      exact am_iret dX2_judge_21 rfl rfl
def fX2_barOfShifts (M : am_M) : Option (Int32 × am_M) :=
(Option.bind (fX2_faultOf (M 1)) fun v1 =>
(if 0 ≤ v1 then
some ((-5 : Int32), M)
 else
(Option.bind (fX2_goShifts M) fun r2 =>
(if r2.1 < 0 then
some ((0 : Int32), r2.2)
 else
some ((-5 : Int32), r2.2)))))
set_option maxHeartbeats 4000000 in
theorem kX2_barOfShifts (G : am_G) (M : am_M)  : am_C G 8 mX2_barOfShifts [am_r 1 0] M (fun r => (some (am_i r.1), r.2)) (fX2_barOfShifts M) := by
  refine am_met (nL := 1) (ls0 := [some (am_r 1 0)]) (by decide) rfl (Nat.le_of_ble_eq_true rfl) (And.intro rfl trivial) ?_
  unfold fX2_barOfShifts
  refine am_aload_n dX2_barOfShifts_0 rfl rfl ?_
  refine am_cVI (as' := []) lc_X2_88 rfl (kX2_faultOf G M) rfl rfl rfl rfl rfl rfl dX2_barOfShifts_1 (fun v1 => ?_)
  refine am_if_ge (tgt := 14) dX2_barOfShifts_4 rfl ?_ ?_
  · refine am_bipush dX2_barOfShifts_14 bp_m5 ?_
    refine am_goto (tgt := 20) dX2_barOfShifts_16 rfl ?_
    exact am_iret dX2_barOfShifts_20 rfl rfl
  · refine am_aload_n dX2_barOfShifts_7 rfl rfl ?_
    refine am_cVX (as' := []) lc_X2_135 rfl (kX2_goShifts G M) rfl rfl rfl rfl rfl rfl dX2_barOfShifts_8 (fun r2 => ?_)
    refine am_if_lt (tgt := 19) dX2_barOfShifts_11 rfl ?_ ?_
    · refine am_iconst dX2_barOfShifts_19 ic_0 ?_
      exact am_iret dX2_barOfShifts_20 rfl rfl
    · refine am_bipush dX2_barOfShifts_14 bp_m5 ?_
      refine am_goto (tgt := 20) dX2_barOfShifts_16 rfl ?_
      exact am_iret dX2_barOfShifts_20 rfl rfl
def fX2_done_L12  (rec1 : (Int32 × am_M) → Option (Int32 × am_M)) (s2 : (Int32 × am_M)) : Option (Int32 × am_M) :=
(if (36 : Int32) ≤ s2.1 then
some (s2.1, s2.2)
 else
(Option.bind (am_rd ((s2.2) 1 1) 36 s2.1) fun v3 =>
(Option.bind (am_wr s2.2 1 0 36 s2.1 v3) fun M4 =>
rec1 ((s2.1 + 1), M4))))
def fX2_done (M : am_M) : Option (Int32 × am_M) :=
(Option.bind (fX2_barOfShifts M) fun r1 =>
(if 0 ≤ r1.1 then
(Option.bind (am_it fX2_done_L12 am_fuel ((0 : Int32), r1.2)) fun (s6 : (Int32 × am_M)) =>
some (((am_put s6.2 1 11 (0 : Int32)) 1 17 0), (am_put s6.2 1 11 (0 : Int32))))
 else
some ((-5 : Int32), r1.2)))
set_option maxHeartbeats 4000000 in
theorem kX2_done (G : am_G) (M : am_M)  : am_C G 9 mX2_done [am_r 1 0] M (fun r => (some (am_i r.1), r.2)) (fX2_done M) := by
  refine am_met (nL := 2) (ls0 := [some (am_r 1 0), none]) (by decide) rfl (Nat.le_of_ble_eq_true rfl) (And.intro rfl trivial) ?_
  unfold fX2_done
  refine am_aload_n dX2_done_0 rfl rfl ?_
  refine am_cVX (as' := []) lc_X2_138 rfl (kX2_barOfShifts G M) rfl rfl rfl rfl rfl rfl dX2_done_1 (fun r1 => ?_)
  refine am_if_ge (tgt := 10) dX2_done_4 rfl ?_ ?_
  · refine am_iconst dX2_done_10 ic_0 ?_
    refine am_istore_n [some (am_r 1 0), some (am_i (0 : Int32))] dX2_done_11 rfl rfl (Nat.le_of_ble_eq_true rfl) rfl ?_
    refine am_join (β := (Int32 × am_M)) 36 (fun s6 => [some (am_r 1 0), none]) (fun _ => []) (fun s6 => s6.2) (fun s6 => ?_) (fun hx5 => ?_)
    · refine am_aload_n dX2_done_36 rfl rfl ?_
      refine am_iconst dX2_done_37 ic_0 ?_
      refine am_putf lf_X2_85 rfl rfl dX2_done_38 ?_
      refine am_aload_n dX2_done_41 rfl rfl ?_
      refine am_get lf_X2_113 rfl rfl dX2_done_42 ?_
      exact am_iret dX2_done_45 rfl rfl
    refine am_loop (σ := (Int32 × am_M)) (ls' := fun s2 => [some (am_r 1 0), some (am_i s2.1)]) (st' := fun _ => []) (M' := fun s2 => s2.2) (fun rec3 hr4 s2 => ?_) _ _
    unfold fX2_done_L12
    refine am_iload_n dX2_done_12 rfl rfl ?_
    refine am_bipush dX2_done_13 bp_36 ?_
    refine am_icmp_geB (tgt := 36) dX2_done_15 rfl ?_ ?_
    · exact am_dr (hx5 (s2.1, s2.2)) (And.intro rfl trivial)
    · refine am_aload_n dX2_done_18 rfl rfl ?_
      refine am_getA lf_X2_7 rfl rfl dX2_done_19 ?_
      refine am_iload_n dX2_done_22 rfl rfl ?_
      refine am_aload_n dX2_done_23 rfl rfl ?_
      refine am_getA lf_X2_13 rfl rfl dX2_done_24 ?_
      refine am_iload_n dX2_done_27 rfl rfl ?_
      refine am_as ?_
      refine am_iald (β := Unit) rfl dX2_done_28 (fun v7 => ?_)
      refine am_as ?_
      refine am_iast rfl dX2_done_29 (fun M8 => ?_)
      refine am_iinc [some (am_r 1 0), some (am_i (s2.1 + 1))] dX2_done_30 rfl ic_1 rfl (Nat.le_of_ble_eq_true rfl) rfl ?_
      refine am_goto (tgt := 12) dX2_done_33 rfl ?_
      exact hr4 ((s2.1 + 1), M8)
  · refine am_bipush dX2_done_7 bp_m5 ?_
    exact am_iret dX2_done_9 rfl rfl
def fX2_behind (M : am_M) (a1 : Int32) (a2 : Int32) : Option (Int32 × am_M) :=
(if (fX2_isThere (M 1) a1) = 0 then
some ((-1 : Int32), M)
 else
(if (fX2_in a2 (0 : Int32) (2 : Int32)) = 0 then
some ((-2 : Int32), M)
 else
(Option.bind (fX2_barOfShifts M) fun r1 =>
(if 0 ≤ r1.1 then
(Option.bind (am_rd ((r1.2) 1 1) 36 (((8 : Int32) * a2) + a1)) fun v2 =>
some (v2, r1.2))
 else
some ((-5 : Int32), r1.2)))))
set_option maxHeartbeats 4000000 in
theorem kX2_behind (G : am_G) (M : am_M) (a1 : Int32) (a2 : Int32) : am_C G 9 mX2_behind [am_r 1 0, am_i a1, am_i a2] M (fun r => (some (am_i r.1), r.2)) (fX2_behind M a1 a2) := by
  refine am_met (nL := 3) (ls0 := [some (am_r 1 0), some (am_i a1), some (am_i a2)]) (by decide) rfl (Nat.le_of_ble_eq_true rfl) (And.intro rfl (And.intro rfl (And.intro rfl trivial))) ?_
  unfold fX2_behind
  refine am_aload_n dX2_behind_0 rfl rfl ?_
  refine am_iload_n dX2_behind_1 rfl rfl ?_
  refine am_cVT (as' := [am_i a1]) lc_X2_82 rfl (kX2_isThere G M a1) rfl rfl rfl rfl rfl rfl dX2_behind_2 ?_
  refine am_if_ne (tgt := 10) dX2_behind_5 rfl ?_ ?_
  · refine am_iconst dX2_behind_8 ic_m1 ?_
    exact am_iret dX2_behind_9 rfl rfl
  · refine am_iload_n dX2_behind_10 rfl rfl ?_
    refine am_iconst dX2_behind_11 ic_0 ?_
    refine am_iconst dX2_behind_12 ic_2 ?_
    refine am_cST lc_X2_59 (kX2_in G M a2 (0 : Int32) (2 : Int32)) rfl rfl rfl rfl rfl dX2_behind_13 ?_
    refine am_if_ne (tgt := 22) dX2_behind_16 rfl ?_ ?_
    · refine am_bipush dX2_behind_19 bp_m2 ?_
      exact am_iret dX2_behind_21 rfl rfl
    · refine am_aload_n dX2_behind_22 rfl rfl ?_
      refine am_cVX (as' := []) lc_X2_138 rfl (kX2_barOfShifts G M) rfl rfl rfl rfl rfl rfl dX2_behind_23 (fun r1 => ?_)
      refine am_if_ge (tgt := 34) dX2_behind_26 rfl ?_ ?_
      · refine am_aload_n dX2_behind_34 rfl rfl ?_
        refine am_getA lf_X2_13 rfl rfl dX2_behind_35 ?_
        refine am_bipush dX2_behind_38 bp_8 ?_
        refine am_iload_n dX2_behind_40 rfl rfl ?_
        refine am_imul dX2_behind_41 ?_
        refine am_iload_n dX2_behind_42 rfl rfl ?_
        refine am_iadd dX2_behind_43 ?_
        refine am_iald (β := Unit) rfl dX2_behind_44 (fun v2 => ?_)
        exact am_iret dX2_behind_45 rfl rfl
      · refine am_bipush dX2_behind_29 bp_m5 ?_
        refine am_goto (tgt := 45) dX2_behind_31 rfl ?_
        exact am_iret dX2_behind_45 rfl rfl
def fX2_seam (M : am_M) (a1 : Int32) (a2 : Int32) : Option (Int32 × am_M) :=
(if (fX2_isGallery a1) = 0 then
some ((-1 : Int32), M)
 else
(if (fX2_in a2 (0 : Int32) (1 : Int32)) = 0 then
some ((-2 : Int32), M)
 else
(Option.bind (fX2_barOfShifts M) fun r1 =>
(if 0 ≤ r1.1 then
(if a2 = 0 then
(Option.bind (fX2_lightOf ((r1.2) 1) a1) fun v2 =>
some (v2, r1.2))
 else
(Option.bind (am_rd ((r1.2) 1 1) 36 ((24 : Int32) + a1)) fun v3 =>
some (v3, r1.2)))
 else
some ((-5 : Int32), r1.2)))))
set_option maxHeartbeats 4000000 in
theorem kX2_seam (G : am_G) (M : am_M) (a1 : Int32) (a2 : Int32) : am_C G 9 mX2_seam [am_r 1 0, am_i a1, am_i a2] M (fun r => (some (am_i r.1), r.2)) (fX2_seam M a1 a2) := by
  refine am_met (nL := 3) (ls0 := [some (am_r 1 0), some (am_i a1), some (am_i a2)]) (by decide) rfl (Nat.le_of_ble_eq_true rfl) (And.intro rfl (And.intro rfl (And.intro rfl trivial))) ?_
  unfold fX2_seam
  refine am_iload_n dX2_seam_0 rfl rfl ?_
  refine am_cST lc_X2_71 (kX2_isGallery G M a1) rfl rfl rfl rfl rfl dX2_seam_1 ?_
  refine am_if_ne (tgt := 9) dX2_seam_4 rfl ?_ ?_
  · refine am_iconst dX2_seam_7 ic_m1 ?_
    exact am_iret dX2_seam_8 rfl rfl
  · refine am_iload_n dX2_seam_9 rfl rfl ?_
    refine am_iconst dX2_seam_10 ic_0 ?_
    refine am_iconst dX2_seam_11 ic_1 ?_
    refine am_cST lc_X2_59 (kX2_in G M a2 (0 : Int32) (1 : Int32)) rfl rfl rfl rfl rfl dX2_seam_12 ?_
    refine am_if_ne (tgt := 21) dX2_seam_15 rfl ?_ ?_
    · refine am_bipush dX2_seam_18 bp_m2 ?_
      exact am_iret dX2_seam_20 rfl rfl
    · refine am_aload_n dX2_seam_21 rfl rfl ?_
      refine am_cVX (as' := []) lc_X2_138 rfl (kX2_barOfShifts G M) rfl rfl rfl rfl rfl rfl dX2_seam_22 (fun r1 => ?_)
      refine am_if_ge (tgt := 31) dX2_seam_25 rfl ?_ ?_
      · refine am_iload_n dX2_seam_31 rfl rfl ?_
        refine am_if_ne (tgt := 43) dX2_seam_32 rfl ?_ ?_
        · refine am_aload_n dX2_seam_35 rfl rfl ?_
          refine am_iload_n dX2_seam_36 rfl rfl ?_
          refine am_cVI (as' := [am_i a1]) lc_X2_101 rfl (kX2_lightOf G r1.2 a1) rfl rfl rfl rfl rfl rfl dX2_seam_37 (fun v2 => ?_)
          refine am_goto (tgt := 52) dX2_seam_40 rfl ?_
          exact am_iret dX2_seam_52 rfl rfl
        · refine am_aload_n dX2_seam_43 rfl rfl ?_
          refine am_getA lf_X2_13 rfl rfl dX2_seam_44 ?_
          refine am_bipush dX2_seam_47 bp_24 ?_
          refine am_iload_n dX2_seam_49 rfl rfl ?_
          refine am_iadd dX2_seam_50 ?_
          refine am_iald (β := Unit) rfl dX2_seam_51 (fun v3 => ?_)
          exact am_iret dX2_seam_52 rfl rfl
      · refine am_bipush dX2_seam_28 bp_m5 ?_
        exact am_iret dX2_seam_30 rfl rfl
def fX2_coal_L4 (m : Nat → Nat → Int32) (rec1 : (Int32 × Int32) → Option (Int32 × Int32)) (s2 : (Int32 × Int32)) : Option (Int32 × Int32) :=
(if (10 : Int32) ≤ s2.2 then
some (s2.1, s2.2)
 else
(Option.bind (am_rd (m 1) 36 ((24 : Int32) + s2.2)) fun v3 =>
rec1 ((s2.1 + v3), (s2.2 + 1))))
def fX2_coal (m : Nat → Nat → Int32) : Option Int32 :=
(Option.bind (am_it (fX2_coal_L4 m) am_fuel ((0 : Int32), (0 : Int32))) fun (s5 : (Int32 × Int32)) =>
some s5.1)
set_option maxHeartbeats 4000000 in
theorem kX2_coal (G : am_G) (M : am_M)  : am_C G 1 mX2_coal [am_r 1 0] M (fun r => (some (am_i r), M)) (fX2_coal (M 1)) := by
  refine am_met (nL := 3) (ls0 := [some (am_r 1 0), none, none]) (by decide) rfl (Nat.le_of_ble_eq_true rfl) (And.intro rfl trivial) ?_
  unfold fX2_coal
  refine am_iconst dX2_coal_0 ic_0 ?_
  refine am_istore_n [some (am_r 1 0), some (am_i (0 : Int32)), none] dX2_coal_1 rfl rfl (Nat.le_of_ble_eq_true rfl) rfl ?_
  refine am_iconst dX2_coal_2 ic_0 ?_
  refine am_istore_n [some (am_r 1 0), some (am_i (0 : Int32)), some (am_i (0 : Int32))] dX2_coal_3 rfl rfl (Nat.le_of_ble_eq_true rfl) rfl ?_
  refine am_join (β := (Int32 × Int32)) 28 (fun s5 => [none, some (am_i s5.1), none]) (fun _ => []) (fun s5 => M) (fun s5 => ?_) (fun hx4 => ?_)
  · refine am_iload_n dX2_coal_28 rfl rfl ?_
    exact am_iret dX2_coal_29 rfl rfl
  refine am_loop (σ := (Int32 × Int32)) (ls' := fun s1 => [some (am_r 1 0), some (am_i s1.1), some (am_i s1.2)]) (st' := fun _ => []) (M' := fun s1 => M) (fun rec2 hr3 s1 => ?_) _ _
  unfold fX2_coal_L4
  refine am_iload_n dX2_coal_4 rfl rfl ?_
  refine am_bipush dX2_coal_5 bp_10 ?_
  refine am_icmp_geB (tgt := 28) dX2_coal_7 rfl ?_ ?_
  · exact am_dr (hx4 (s1.1, s1.2)) (And.intro rfl trivial)
  · refine am_iload_n dX2_coal_10 rfl rfl ?_
    refine am_aload_n dX2_coal_11 rfl rfl ?_
    refine am_getA lf_X2_13 rfl rfl dX2_coal_12 ?_
    refine am_bipush dX2_coal_15 bp_24 ?_
    refine am_iload_n dX2_coal_17 rfl rfl ?_
    refine am_iadd dX2_coal_18 ?_
    refine am_as ?_
    refine am_iald (β := Unit) rfl dX2_coal_19 (fun v6 => ?_)
    refine am_iadd dX2_coal_20 ?_
    refine am_istore_n [some (am_r 1 0), some (am_i (s1.1 + v6)), some (am_i s1.2)] dX2_coal_21 rfl rfl (Nat.le_of_ble_eq_true rfl) rfl ?_
    refine am_iinc [some (am_r 1 0), some (am_i (s1.1 + v6)), some (am_i (s1.2 + 1))] dX2_coal_22 rfl ic_1 rfl (Nat.le_of_ble_eq_true rfl) rfl ?_
    refine am_goto (tgt := 4) dX2_coal_25 rfl ?_
    exact hr3 ((s1.1 + v6), (s1.2 + 1))
def fX2_then (M : am_M) (a1 : Int32) : Option (Int32 × am_M) :=
(if (fX2_in a1 (0 : Int32) (4 : Int32)) = 0 then
some ((-2 : Int32), M)
 else
(Option.bind (fX2_barOfShifts M) fun r1 =>
(if 0 ≤ r1.1 then
(if a1 = 0 then
(Option.bind (fX2_lamps ((r1.2) 1)) fun v3 =>
some (v3, r1.2))
 else
(if a1 = 1 then
(Option.bind (am_rd ((r1.2) 1 1) 36 (35 : Int32)) fun v5 =>
some (v5, r1.2))
 else
(if a1 = 2 then
(Option.bind (fX2_coal ((r1.2) 1)) fun v7 =>
some (v7, r1.2))
 else
(if a1 = (3 : Int32) then
some (((r1.2) 1 13 0), r1.2)
 else
some (((r1.2) 1 14 0), r1.2)))))
 else
some ((-5 : Int32), r1.2))))
set_option maxHeartbeats 4000000 in
theorem kX2_then (G : am_G) (M : am_M) (a1 : Int32) : am_C G 9 mX2_then [am_r 1 0, am_i a1] M (fun r => (some (am_i r.1), r.2)) (fX2_then M a1) := by
  refine am_met (nL := 2) (ls0 := [some (am_r 1 0), some (am_i a1)]) (by decide) rfl (Nat.le_of_ble_eq_true rfl) (And.intro rfl (And.intro rfl trivial)) ?_
  unfold fX2_then
  refine am_iload_n dX2_then_0 rfl rfl ?_
  refine am_iconst dX2_then_1 ic_0 ?_
  refine am_iconst dX2_then_2 ic_4 ?_
  refine am_cST lc_X2_59 (kX2_in G M a1 (0 : Int32) (4 : Int32)) rfl rfl rfl rfl rfl dX2_then_3 ?_
  refine am_if_ne (tgt := 12) dX2_then_6 rfl ?_ ?_
  · refine am_bipush dX2_then_9 bp_m2 ?_
    exact am_iret dX2_then_11 rfl rfl
  · refine am_aload_n dX2_then_12 rfl rfl ?_
    refine am_cVX (as' := []) lc_X2_138 rfl (kX2_barOfShifts G M) rfl rfl rfl rfl rfl rfl dX2_then_13 (fun r1 => ?_)
    refine am_if_ge (tgt := 22) dX2_then_16 rfl ?_ ?_
    · refine am_iload_n dX2_then_22 rfl rfl ?_
      refine am_ite (fun h2 => ?_) (fun h2 => ?_)
      · refine am_swI (tgt := 48) 0 h2 dX2_then_23 (by decide) (by decide) rfl rfl ?_
        refine am_aload_n dX2_then_48 rfl rfl ?_
        refine am_cVI (as' := []) lc_X2_116 rfl (kX2_lamps G r1.2) rfl rfl rfl rfl rfl rfl dX2_then_49 (fun v3 => ?_)
        exact am_iret dX2_then_52 rfl rfl
      refine am_ite (fun h4 => ?_) (fun h4 => ?_)
      · refine am_swI (tgt := 53) 1 h4 dX2_then_23 (by decide) (by decide) rfl rfl ?_
        refine am_aload_n dX2_then_53 rfl rfl ?_
        refine am_getA lf_X2_13 rfl rfl dX2_then_54 ?_
        refine am_bipush dX2_then_57 bp_35 ?_
        refine am_iald (β := Unit) rfl dX2_then_59 (fun v5 => ?_)
        exact am_iret dX2_then_60 rfl rfl
      refine am_ite (fun h6 => ?_) (fun h6 => ?_)
      · refine am_swI (tgt := 61) 2 h6 dX2_then_23 (by decide) (by decide) rfl rfl ?_
        refine am_aload_n dX2_then_61 rfl rfl ?_
        refine am_cVI (as' := []) lc_X2_141 rfl (kX2_coal G r1.2) rfl rfl rfl rfl rfl rfl dX2_then_62 (fun v7 => ?_)
        exact am_iret dX2_then_65 rfl rfl
      refine am_swO (tgt := 66) dX2_then_23 (by have h2 := lv_neT (a := 0) h2 (by decide); have h4 := lv_neT (a := 1) h4 (by decide); have h6 := lv_neT (a := 2) h6 (by decide); omega) rfl ?_
      refine am_iload_n dX2_then_66 rfl rfl ?_
      refine am_iconst dX2_then_67 ic_3 ?_
      refine am_icmp_ne (tgt := 78) dX2_then_68 rfl ?_ ?_
      · refine am_aload_n dX2_then_71 rfl rfl ?_
        refine am_get lf_X2_104 rfl rfl dX2_then_72 ?_
        refine am_goto (tgt := 82) dX2_then_75 rfl ?_
        exact am_iret dX2_then_82 rfl rfl
      · refine am_aload_n dX2_then_78 rfl rfl ?_
        refine am_get lf_X2_107 rfl rfl dX2_then_79 ?_
        exact am_iret dX2_then_82 rfl rfl
    · refine am_bipush dX2_then_19 bp_m5 ?_
      exact am_iret dX2_then_21 rfl rfl
def fX2_light (M : am_M) (a1 : Int32) : Option (Int32 × am_M) :=
(if (fX2_isGallery a1) = 0 then
some ((-1 : Int32), M)
 else
(Option.bind (fX2_asNow M) fun M1 =>
(Option.bind (fX2_lightOf (M1 1) a1) fun v2 =>
some (v2, M1))))
set_option maxHeartbeats 4000000 in
theorem kX2_light (G : am_G) (M : am_M) (a1 : Int32) : am_C G 6 mX2_light [am_r 1 0, am_i a1] M (fun r => (some (am_i r.1), r.2)) (fX2_light M a1) := by
  refine am_met (nL := 2) (ls0 := [some (am_r 1 0), some (am_i a1)]) (by decide) rfl (Nat.le_of_ble_eq_true rfl) (And.intro rfl (And.intro rfl trivial)) ?_
  unfold fX2_light
  refine am_iload_n dX2_light_0 rfl rfl ?_
  refine am_cST lc_X2_71 (kX2_isGallery G M a1) rfl rfl rfl rfl rfl dX2_light_1 ?_
  refine am_if_ne (tgt := 9) dX2_light_4 rfl ?_ ?_
  · refine am_iconst dX2_light_7 ic_m1 ?_
    exact am_iret dX2_light_8 rfl rfl
  · refine am_aload_n dX2_light_9 rfl rfl ?_
    refine am_cVU (as' := []) lc_X2_110 rfl (kX2_asNow G M) rfl rfl rfl rfl rfl rfl dX2_light_10 (fun M1 => ?_)
    refine am_aload_n dX2_light_13 rfl rfl ?_
    refine am_iload_n dX2_light_14 rfl rfl ?_
    refine am_cVI (as' := [am_i a1]) lc_X2_101 rfl (kX2_lightOf G M1 a1) rfl rfl rfl rfl rfl rfl dX2_light_15 (fun v2 => ?_)
    exact am_iret dX2_light_18 rfl rfl
def fX2_shakes_L16 (M1 : am_M) (s2 : (Int32 × Int32)) (rec3 : (Int32 × Int32) → Option (Int32 × Int32)) (s4 : (Int32 × Int32)) : Option (Int32 × Int32) :=
(if (8 : Int32) ≤ s4.2 then
some (s4.1, s4.2)
 else
(Option.bind (am_rd (M1 1 1) 36 ((16 : Int32) + s2.2)) fun v5 =>
(Option.bind (fX2_sings (M1 1) s2.2 v5) fun v6 =>
(Option.bind (if v6 = 0 then
some (0 : Int32)
 else
(Option.bind (fX2_sings (M1 1) s4.2 v5) fun v7 =>
(if v7 = 0 then
some (0 : Int32)
 else
(Option.bind (am_rd (M1 1 1) 36 s2.2) fun v8 =>
(Option.bind (am_rd (M1 1 1) 36 s4.2) fun v9 =>
(if v8 = (v9 + (1 : Int32)) then
some ((1 : Int32) <<< (v5 &&& 31))
 else
some (0 : Int32))))))) fun (x10 : Int32) =>
rec3 ((s4.1 ||| x10), (s4.2 + 1))))))
def fX2_shakes_L8 (M1 : am_M) (rec2 : (Int32 × Int32) → Option (Int32 × Int32)) (s3 : (Int32 × Int32)) : Option (Int32 × Int32) :=
(if (8 : Int32) ≤ s3.2 then
some (s3.1, s3.2)
 else
(Option.bind (am_it (fX2_shakes_L16 M1 s3) am_fuel (s3.1, (0 : Int32))) fun (s4 : (Int32 × Int32)) =>
rec2 (s4.1, (s3.2 + 1))))
def fX2_shakes (M : am_M) : Option (Int32 × am_M) :=
(Option.bind (fX2_asNow M) fun M1 =>
(Option.bind (am_it (fX2_shakes_L8 M1) am_fuel ((0 : Int32), (0 : Int32))) fun (s6 : (Int32 × Int32)) =>
some (s6.1, M1)))
set_option maxHeartbeats 4000000 in
theorem kX2_shakes (G : am_G) (M : am_M)  : am_C G 4 mX2_shakes [am_r 1 0] M (fun r => (some (am_i r.1), r.2)) (fX2_shakes M) := by
  refine am_met (nL := 5) (ls0 := [some (am_r 1 0), none, none, none, none]) (by decide) rfl (Nat.le_of_ble_eq_true rfl) (And.intro rfl trivial) ?_
  unfold fX2_shakes
  refine am_aload_n dX2_shakes_0 rfl rfl ?_
  refine am_cVU (as' := []) lc_X2_110 rfl (kX2_asNow G M) rfl rfl rfl rfl rfl rfl dX2_shakes_1 (fun M1 => ?_)
  refine am_iconst dX2_shakes_4 ic_0 ?_
  refine am_istore_n [some (am_r 1 0), some (am_i (0 : Int32)), none, none, none] dX2_shakes_5 rfl rfl (Nat.le_of_ble_eq_true rfl) rfl ?_
  refine am_iconst dX2_shakes_6 ic_0 ?_
  refine am_istore_n [some (am_r 1 0), some (am_i (0 : Int32)), some (am_i (0 : Int32)), none, none] dX2_shakes_7 rfl rfl (Nat.le_of_ble_eq_true rfl) rfl ?_
  refine am_join (β := (Int32 × Int32)) 93 (fun s6 => [none, some (am_i s6.1), none, none, none]) (fun _ => []) (fun s6 => M1) (fun s6 => ?_) (fun hx5 => ?_)
  · refine am_iload_n dX2_shakes_93 rfl rfl ?_
    exact am_iret dX2_shakes_94 rfl rfl
  refine am_loop (σ := (Int32 × Int32)) (ls' := fun s2 => [some (am_r 1 0), some (am_i s2.1), some (am_i s2.2), none, none]) (st' := fun _ => []) (M' := fun s2 => M1) (fun rec3 hr4 s2 => ?_) _ _
  unfold fX2_shakes_L8
  refine am_iload_n dX2_shakes_8 rfl rfl ?_
  refine am_bipush dX2_shakes_9 bp_8 ?_
  refine am_icmp_geB (tgt := 93) dX2_shakes_11 rfl ?_ ?_
  · exact am_dr (hx5 (s2.1, s2.2)) (And.intro rfl trivial)
  · refine am_iconst dX2_shakes_14 ic_0 ?_
    refine am_istore_n [some (am_r 1 0), some (am_i s2.1), some (am_i s2.2), some (am_i (0 : Int32)), none] dX2_shakes_15 rfl rfl (Nat.le_of_ble_eq_true rfl) rfl ?_
    refine am_as ?_
    refine am_join (β := (Int32 × Int32)) 87 (fun s11 => [some (am_r 1 0), some (am_i s11.1), some (am_i s2.2), none, none]) (fun _ => []) (fun s11 => M1) (fun s11 => ?_) (fun hx10 => ?_)
    · refine am_iinc [some (am_r 1 0), some (am_i s11.1), some (am_i (s2.2 + 1)), none, none] dX2_shakes_87 rfl ic_1 rfl (Nat.le_of_ble_eq_true rfl) rfl ?_
      refine am_goto (tgt := 8) dX2_shakes_90 rfl ?_
      exact hr4 (s11.1, (s2.2 + 1))
    refine am_loop (σ := (Int32 × Int32)) (ls' := fun s7 => [some (am_r 1 0), some (am_i s7.1), some (am_i s2.2), some (am_i s7.2), none]) (st' := fun _ => []) (M' := fun s7 => M1) (fun rec8 hr9 s7 => ?_) _ _
    unfold fX2_shakes_L16
    refine am_iload_n dX2_shakes_16 rfl rfl ?_
    refine am_bipush dX2_shakes_17 bp_8 ?_
    refine am_icmp_geB (tgt := 87) dX2_shakes_19 rfl ?_ ?_
    · exact am_dr (hx10 (s7.1, s7.2)) (And.intro rfl (And.intro rfl (And.intro rfl trivial)))
    · refine am_aload_n dX2_shakes_22 rfl rfl ?_
      refine am_getA lf_X2_13 rfl rfl dX2_shakes_23 ?_
      refine am_bipush dX2_shakes_26 bp_16 ?_
      refine am_iload_n dX2_shakes_28 rfl rfl ?_
      refine am_iadd dX2_shakes_29 ?_
      refine am_as ?_
      refine am_iald (β := Unit) rfl dX2_shakes_30 (fun v12 => ?_)
      refine am_istore [some (am_r 1 0), some (am_i s7.1), some (am_i s2.2), some (am_i s7.2), some (am_i v12)] dX2_shakes_31 rfl (Nat.le_of_ble_eq_true rfl) rfl ?_
      refine am_iload_n dX2_shakes_33 rfl rfl ?_
      refine am_aload_n dX2_shakes_34 rfl rfl ?_
      refine am_iload_n dX2_shakes_35 rfl rfl ?_
      refine am_iload dX2_shakes_36 rfl ?_
      refine am_as ?_
      refine am_cVI (as' := [am_i s2.2, am_i v12]) lc_X2_92 rfl (kX2_sings G M1 s2.2 v12) rfl rfl rfl rfl rfl rfl dX2_shakes_38 (fun v13 => ?_)
      refine am_as ?_
      refine am_join (β := Int32) 79 (fun x14 => [some (am_r 1 0), some (am_i s7.1), some (am_i s2.2), some (am_i s7.2), some (am_i v12)]) (fun x14 => [am_i x14, am_i s7.1]) (fun x14 => M1) (fun x14 => ?_) (fun hm15 => ?_)
      · refine am_ior dX2_shakes_79 ?_
        refine am_istore_n [some (am_r 1 0), some (am_i (s7.1 ||| x14)), some (am_i s2.2), some (am_i s7.2), some (am_i v12)] dX2_shakes_80 rfl rfl (Nat.le_of_ble_eq_true rfl) rfl ?_
        refine am_iinc [some (am_r 1 0), some (am_i (s7.1 ||| x14)), some (am_i s2.2), some (am_i (s7.2 + 1)), some (am_i v12)] dX2_shakes_81 rfl ic_1 rfl (Nat.le_of_ble_eq_true rfl) rfl ?_
        refine am_goto (tgt := 16) dX2_shakes_84 rfl ?_
        exact am_dr (hr9 ((s7.1 ||| x14), (s7.2 + 1))) (And.intro rfl (And.intro rfl (And.intro rfl (And.intro rfl trivial))))
      refine am_if_eqB (tgt := 78) dX2_shakes_41 rfl ?_ ?_
      · refine am_iconst dX2_shakes_78 ic_0 ?_
        exact hm15 (0 : Int32)
      · refine am_aload_n dX2_shakes_44 rfl rfl ?_
        refine am_iload_n dX2_shakes_45 rfl rfl ?_
        refine am_iload dX2_shakes_46 rfl ?_
        refine am_as ?_
        refine am_cVI (as' := [am_i s7.2, am_i v12]) lc_X2_92 rfl (kX2_sings G M1 s7.2 v12) rfl rfl rfl rfl rfl rfl dX2_shakes_48 (fun v16 => ?_)
        refine am_if_eqB (tgt := 78) dX2_shakes_51 rfl ?_ ?_
        · refine am_iconst dX2_shakes_78 ic_0 ?_
          exact hm15 (0 : Int32)
        · refine am_aload_n dX2_shakes_54 rfl rfl ?_
          refine am_getA lf_X2_13 rfl rfl dX2_shakes_55 ?_
          refine am_iload_n dX2_shakes_58 rfl rfl ?_
          refine am_as ?_
          refine am_iald (β := Unit) rfl dX2_shakes_59 (fun v17 => ?_)
          refine am_aload_n dX2_shakes_60 rfl rfl ?_
          refine am_getA lf_X2_13 rfl rfl dX2_shakes_61 ?_
          refine am_iload_n dX2_shakes_64 rfl rfl ?_
          refine am_as ?_
          refine am_iald (β := Unit) rfl dX2_shakes_65 (fun v18 => ?_)
          refine am_iconst dX2_shakes_66 ic_1 ?_
          refine am_iadd dX2_shakes_67 ?_
          refine am_icmp_neB (tgt := 78) dX2_shakes_68 rfl ?_ ?_
          · refine am_iconst dX2_shakes_71 ic_1 ?_
            refine am_iload dX2_shakes_72 rfl ?_
            refine am_ishl dX2_shakes_74 ?_
            refine am_goto (tgt := 79) dX2_shakes_75 rfl ?_
            exact hm15 ((1 : Int32) <<< (v12 &&& 31))
          · refine am_iconst dX2_shakes_78 ic_0 ?_
            exact hm15 (0 : Int32)
def fX2_layFar_L60 (a2 : Int32) (s1 : (Int32 × am_M)) (rec2 : (Int32 × am_M) → Option (Int32 × am_M)) (s3 : (Int32 × am_M)) : Option (Int32 × am_M) :=
(if (10 : Int32) ≤ s3.1 then
some (s3.1, s3.2)
 else
(Option.bind (am_rd ((s3.2) 1 6) 10 s1.1) fun v4 =>
(Option.bind (if (fX2_has v4 s3.1) = 0 then
(Option.bind (am_rd ((s3.2) 1 18) 10 s3.1) fun v5 =>
some v5)
 else
(if (fX2_has a2 s3.1) = 0 then
(Option.bind (am_rd ((s3.2) 1 18) 10 s3.1) fun v6 =>
some v6)
 else
(Option.bind (am_rd ((s3.2) 1 18) 10 s1.1) fun v7 =>
(Option.bind (am_rd ((s3.2) 1 18) 10 s3.1) fun v8 =>
(if v8 ≤ (v7 + (1 : Int32)) then
(Option.bind (am_rd ((s3.2) 1 18) 10 s3.1) fun v9 =>
some v9)
 else
(Option.bind (am_rd ((s3.2) 1 18) 10 s1.1) fun v10 =>
some (v10 + (1 : Int32)))))))) fun (x11 : Int32) =>
(Option.bind (am_wr s3.2 1 18 10 s3.1 x11) fun M12 =>
rec2 ((s3.1 + 1), M12)))))
def fX2_layFar_L50 (a2 : Int32) (rec1 : (Int32 × am_M) → Option (Int32 × am_M)) (s2 : (Int32 × am_M)) : Option (Int32 × am_M) :=
(if (10 : Int32) ≤ s2.1 then
some (s2.1, s2.2)
 else
(Option.bind (am_it (fX2_layFar_L60 a2 s2) am_fuel ((0 : Int32), s2.2)) fun (s3 : (Int32 × am_M)) =>
rec1 ((s2.1 + 1), s3.2)))
def fX2_layFar_L41 (a2 : Int32) (rec1 : (Int32 × am_M) → Option (Int32 × am_M)) (s2 : (Int32 × am_M)) : Option (Int32 × am_M) :=
(if (10 : Int32) ≤ s2.1 then
some (s2.1, s2.2)
 else
(Option.bind (am_it (fX2_layFar_L50 a2) am_fuel ((0 : Int32), s2.2)) fun (s3 : (Int32 × am_M)) =>
rec1 ((s2.1 + 1), s3.2)))
def fX2_layFar_L2 (a1 : Int32) (a2 : Int32) (rec1 : (Int32 × am_M) → Option (Int32 × am_M)) (s2 : (Int32 × am_M)) : Option (Int32 × am_M) :=
(if (10 : Int32) ≤ s2.1 then
some (s2.1, s2.2)
 else
(Option.bind (if s2.1 = a1 then
(if (fX2_has a2 s2.1) = 0 then
some (1000000 : Int32)
 else
some (0 : Int32))
 else
some (1000000 : Int32)) fun (x3 : Int32) =>
(Option.bind (am_wr s2.2 1 18 10 s2.1 x3) fun M4 =>
rec1 ((s2.1 + 1), M4))))
def fX2_layFar (M : am_M) (a1 : Int32) (a2 : Int32) : Option am_M :=
(Option.bind (am_it (fX2_layFar_L2 a1 a2) am_fuel ((0 : Int32), M)) fun (s5 : (Int32 × am_M)) =>
(Option.bind (am_it (fX2_layFar_L41 a2) am_fuel ((0 : Int32), s5.2)) fun (s13 : (Int32 × am_M)) =>
some s13.2))
set_option maxHeartbeats 4000000 in
theorem kX2_layFar (G : am_G) (M : am_M) (a1 : Int32) (a2 : Int32) : am_C G 2 mX2_layFar [am_r 1 0, am_i a1, am_i a2] M (fun r => (none, r)) (fX2_layFar M a1 a2) := by
  refine am_met (nL := 6) (ls0 := [some (am_r 1 0), some (am_i a1), some (am_i a2), none, none, none]) (by decide) rfl (Nat.le_of_ble_eq_true rfl) (And.intro rfl (And.intro rfl (And.intro rfl trivial))) ?_
  unfold fX2_layFar
  refine am_iconst dX2_layFar_0 ic_0 ?_
  refine am_istore_n [some (am_r 1 0), some (am_i a1), some (am_i a2), some (am_i (0 : Int32)), none, none] dX2_layFar_1 rfl rfl (Nat.le_of_ble_eq_true rfl) rfl ?_
  refine am_join (β := (Int32 × am_M)) 39 (fun s5 => [some (am_r 1 0), none, some (am_i a2), none, none, none]) (fun _ => []) (fun s5 => s5.2) (fun s5 => ?_) (fun hx4 => ?_)
  · refine am_iconst dX2_layFar_39 ic_0 ?_
    refine am_istore_n [some (am_r 1 0), none, some (am_i a2), some (am_i (0 : Int32)), none, none] dX2_layFar_40 rfl rfl (Nat.le_of_ble_eq_true rfl) rfl ?_
    refine am_join (β := (Int32 × am_M)) 154 (fun s13 => [none, none, none, none, none, none]) (fun _ => []) (fun s13 => s13.2) (fun s13 => ?_) (fun hx12 => ?_)
    · exact am_vret dX2_layFar_154 rfl rfl
    refine am_loop (σ := (Int32 × am_M)) (ls' := fun s9 => [some (am_r 1 0), none, some (am_i a2), some (am_i s9.1), none, none]) (st' := fun _ => []) (M' := fun s9 => s9.2) (fun rec10 hr11 s9 => ?_) _ _
    unfold fX2_layFar_L41
    refine am_iload_n dX2_layFar_41 rfl rfl ?_
    refine am_bipush dX2_layFar_42 bp_10 ?_
    refine am_icmp_geB (tgt := 154) dX2_layFar_44 rfl ?_ ?_
    · exact am_dr (hx12 (s9.1, s9.2)) trivial
    · refine am_iconst dX2_layFar_47 ic_0 ?_
      refine am_istore [some (am_r 1 0), none, some (am_i a2), some (am_i s9.1), some (am_i (0 : Int32)), none] dX2_layFar_48 rfl (Nat.le_of_ble_eq_true rfl) rfl ?_
      refine am_as ?_
      refine am_join (β := (Int32 × am_M)) 148 (fun s18 => [some (am_r 1 0), none, some (am_i a2), some (am_i s9.1), none, none]) (fun _ => []) (fun s18 => s18.2) (fun s18 => ?_) (fun hx17 => ?_)
      · refine am_iinc [some (am_r 1 0), none, some (am_i a2), some (am_i (s9.1 + 1)), none, none] dX2_layFar_148 rfl ic_1 rfl (Nat.le_of_ble_eq_true rfl) rfl ?_
        refine am_goto (tgt := 41) dX2_layFar_151 rfl ?_
        exact hr11 ((s9.1 + 1), s18.2)
      refine am_loop (σ := (Int32 × am_M)) (ls' := fun s14 => [some (am_r 1 0), none, some (am_i a2), some (am_i s9.1), some (am_i s14.1), none]) (st' := fun _ => []) (M' := fun s14 => s14.2) (fun rec15 hr16 s14 => ?_) _ _
      unfold fX2_layFar_L50
      refine am_iload dX2_layFar_50 rfl ?_
      refine am_bipush dX2_layFar_52 bp_10 ?_
      refine am_icmp_geB (tgt := 148) dX2_layFar_54 rfl ?_ ?_
      · exact am_dr (hx17 (s14.1, s14.2)) (And.intro rfl (And.intro rfl (And.intro rfl trivial)))
      · refine am_iconst dX2_layFar_57 ic_0 ?_
        refine am_istore [some (am_r 1 0), none, some (am_i a2), some (am_i s9.1), some (am_i s14.1), some (am_i (0 : Int32))] dX2_layFar_58 rfl (Nat.le_of_ble_eq_true rfl) rfl ?_
        refine am_as ?_
        refine am_join (β := (Int32 × am_M)) 142 (fun s23 => [some (am_r 1 0), none, some (am_i a2), some (am_i s9.1), some (am_i s14.1), none]) (fun _ => []) (fun s23 => s23.2) (fun s23 => ?_) (fun hx22 => ?_)
        · refine am_iinc [some (am_r 1 0), none, some (am_i a2), some (am_i s9.1), some (am_i (s14.1 + 1)), none] dX2_layFar_142 rfl ic_1 rfl (Nat.le_of_ble_eq_true rfl) rfl ?_
          refine am_goto (tgt := 50) dX2_layFar_145 rfl ?_
          exact hr16 ((s14.1 + 1), s23.2)
        refine am_loop (σ := (Int32 × am_M)) (ls' := fun s19 => [some (am_r 1 0), none, some (am_i a2), some (am_i s9.1), some (am_i s14.1), some (am_i s19.1)]) (st' := fun _ => []) (M' := fun s19 => s19.2) (fun rec20 hr21 s19 => ?_) _ _
        unfold fX2_layFar_L60
        refine am_iload dX2_layFar_60 rfl ?_
        refine am_bipush dX2_layFar_62 bp_10 ?_
        refine am_icmp_geB (tgt := 142) dX2_layFar_64 rfl ?_ ?_
        · exact am_dr (hx22 (s19.1, s19.2)) (And.intro rfl (And.intro rfl (And.intro rfl (And.intro rfl trivial))))
        · refine am_aload_n dX2_layFar_67 rfl rfl ?_
          refine am_getA lf_X2_40 rfl rfl dX2_layFar_68 ?_
          refine am_iload dX2_layFar_71 rfl ?_
          refine am_aload_n dX2_layFar_73 rfl rfl ?_
          refine am_getA lf_X2_25 rfl rfl dX2_layFar_74 ?_
          refine am_iload dX2_layFar_77 rfl ?_
          refine am_as ?_
          refine am_iald (β := Unit) rfl dX2_layFar_79 (fun v24 => ?_)
          refine am_iload dX2_layFar_80 rfl ?_
          refine am_cST lc_X2_67 (kX2_has G s19.2 v24 s19.1) rfl rfl rfl rfl rfl dX2_layFar_82 ?_
          refine am_as ?_
          refine am_join (β := Int32) 135 (fun x25 => [some (am_r 1 0), none, some (am_i a2), some (am_i s9.1), some (am_i s14.1), some (am_i s19.1)]) (fun x25 => [am_i x25, am_i s19.1, am_r 1 19]) (fun x25 => s19.2) (fun x25 => ?_) (fun hm26 => ?_)
          · refine am_as ?_
            refine am_iast rfl dX2_layFar_135 (fun M33 => ?_)
            refine am_iinc [some (am_r 1 0), none, some (am_i a2), some (am_i s9.1), some (am_i s14.1), some (am_i (s19.1 + 1))] dX2_layFar_136 rfl ic_1 rfl (Nat.le_of_ble_eq_true rfl) rfl ?_
            refine am_goto (tgt := 60) dX2_layFar_139 rfl ?_
            exact hr21 ((s19.1 + 1), M33)
          refine am_if_eqB (tgt := 128) dX2_layFar_85 rfl ?_ ?_
          · refine am_aload_n dX2_layFar_128 rfl rfl ?_
            refine am_getA lf_X2_40 rfl rfl dX2_layFar_129 ?_
            refine am_iload dX2_layFar_132 rfl ?_
            refine am_as ?_
            refine am_iald (β := Unit) rfl dX2_layFar_134 (fun v27 => ?_)
            exact hm26 v27
          · refine am_iload_n dX2_layFar_88 rfl rfl ?_
            refine am_iload dX2_layFar_89 rfl ?_
            refine am_cST lc_X2_67 (kX2_has G s19.2 a2 s19.1) rfl rfl rfl rfl rfl dX2_layFar_91 ?_
            refine am_if_eqB (tgt := 128) dX2_layFar_94 rfl ?_ ?_
            · refine am_aload_n dX2_layFar_128 rfl rfl ?_
              refine am_getA lf_X2_40 rfl rfl dX2_layFar_129 ?_
              refine am_iload dX2_layFar_132 rfl ?_
              refine am_as ?_
              refine am_iald (β := Unit) rfl dX2_layFar_134 (fun v28 => ?_)
              exact hm26 v28
            · refine am_aload_n dX2_layFar_97 rfl rfl ?_
              refine am_getA lf_X2_40 rfl rfl dX2_layFar_98 ?_
              refine am_iload dX2_layFar_101 rfl ?_
              refine am_as ?_
              refine am_iald (β := Unit) rfl dX2_layFar_103 (fun v29 => ?_)
              refine am_iconst dX2_layFar_104 ic_1 ?_
              refine am_iadd dX2_layFar_105 ?_
              refine am_aload_n dX2_layFar_106 rfl rfl ?_
              refine am_getA lf_X2_40 rfl rfl dX2_layFar_107 ?_
              refine am_iload dX2_layFar_110 rfl ?_
              refine am_as ?_
              refine am_iald (β := Unit) rfl dX2_layFar_112 (fun v30 => ?_)
              refine am_icmp_geB (tgt := 128) dX2_layFar_113 rfl ?_ ?_
              · refine am_aload_n dX2_layFar_128 rfl rfl ?_
                refine am_getA lf_X2_40 rfl rfl dX2_layFar_129 ?_
                refine am_iload dX2_layFar_132 rfl ?_
                refine am_as ?_
                refine am_iald (β := Unit) rfl dX2_layFar_134 (fun v31 => ?_)
                exact hm26 v31
              · refine am_aload_n dX2_layFar_116 rfl rfl ?_
                refine am_getA lf_X2_40 rfl rfl dX2_layFar_117 ?_
                refine am_iload dX2_layFar_120 rfl ?_
                refine am_as ?_
                refine am_iald (β := Unit) rfl dX2_layFar_122 (fun v32 => ?_)
                refine am_iconst dX2_layFar_123 ic_1 ?_
                refine am_iadd dX2_layFar_124 ?_
                refine am_goto (tgt := 135) dX2_layFar_125 rfl ?_
                exact hm26 (v32 + (1 : Int32))
  refine am_loop (σ := (Int32 × am_M)) (ls' := fun s1 => [some (am_r 1 0), some (am_i a1), some (am_i a2), some (am_i s1.1), none, none]) (st' := fun _ => []) (M' := fun s1 => s1.2) (fun rec2 hr3 s1 => ?_) _ _
  unfold fX2_layFar_L2
  refine am_iload_n dX2_layFar_2 rfl rfl ?_
  refine am_bipush dX2_layFar_3 bp_10 ?_
  refine am_icmp_geB (tgt := 39) dX2_layFar_5 rfl ?_ ?_
  · exact am_dr (hx4 (s1.1, s1.2)) (And.intro rfl (And.intro rfl trivial))
  · refine am_aload_n dX2_layFar_8 rfl rfl ?_
    refine am_getA lf_X2_40 rfl rfl dX2_layFar_9 ?_
    refine am_iload_n dX2_layFar_12 rfl rfl ?_
    refine am_iload_n dX2_layFar_13 rfl rfl ?_
    refine am_iload_n dX2_layFar_14 rfl rfl ?_
    refine am_as ?_
    refine am_join (β := Int32) 32 (fun x6 => [some (am_r 1 0), some (am_i a1), some (am_i a2), some (am_i s1.1), none, none]) (fun x6 => [am_i x6, am_i s1.1, am_r 1 19]) (fun x6 => s1.2) (fun x6 => ?_) (fun hm7 => ?_)
    · refine am_as ?_
      refine am_iast rfl dX2_layFar_32 (fun M8 => ?_)
      refine am_iinc [some (am_r 1 0), some (am_i a1), some (am_i a2), some (am_i (s1.1 + 1)), none, none] dX2_layFar_33 rfl ic_1 rfl (Nat.le_of_ble_eq_true rfl) rfl ?_
      refine am_goto (tgt := 2) dX2_layFar_36 rfl ?_
      exact hr3 ((s1.1 + 1), M8)
    refine am_icmp_neB (tgt := 30) dX2_layFar_15 rfl ?_ ?_
    · refine am_iload_n dX2_layFar_18 rfl rfl ?_
      refine am_iload_n dX2_layFar_19 rfl rfl ?_
      refine am_cST lc_X2_67 (kX2_has G s1.2 a2 s1.1) rfl rfl rfl rfl rfl dX2_layFar_20 ?_
      refine am_if_eqB (tgt := 30) dX2_layFar_23 rfl ?_ ?_
      · refine am_ldc dX2_layFar_30 q787 ?_
        exact hm7 (1000000 : Int32)
      · refine am_iconst dX2_layFar_26 ic_0 ?_
        refine am_goto (tgt := 32) dX2_layFar_27 rfl ?_
        exact hm7 (0 : Int32)
    · refine am_ldc dX2_layFar_30 q787 ?_
      exact hm7 (1000000 : Int32)
def fX2_way_L84 (a1 : Int32) (a2 : Int32) (M1 : am_M) (rec2 : (Int32 × Int32) → Option (Int32 × Int32)) (s3 : (Int32 × Int32)) : Option (Int32 × Int32) :=
(if s3.2 < 0 then
some (s3.1, s3.2)
 else
(if a1 = a2 then
some (s3.1, s3.2)
 else
(Option.bind (am_rd (M1 1 6) 10 a1) fun v4 =>
(Option.bind (if (fX2_has v4 s3.2) = 0 then
some s3.1
 else
(Option.bind (am_rd (M1 1 18) 10 s3.2) fun v5 =>
(Option.bind (am_rd (M1 1 18) 10 a1) fun v6 =>
(if (v5 + (1 : Int32)) = v6 then
some s3.2
 else
some s3.1)))) fun (x7 : Int32) =>
rec2 (x7, (s3.2 + (-1)))))))
def fX2_way (M : am_M) (a1 : Int32) (a2 : Int32) (a3 : Int32) : Option (Int32 × am_M) :=
(if (fX2_isGallery a1) = 0 then
some ((-1 : Int32), M)
 else
(if (fX2_isGallery a2) = 0 then
some ((-1 : Int32), M)
 else
(if (fX2_in a3 (0 : Int32) (1 : Int32)) = 0 then
some ((-2 : Int32), M)
 else
(Option.bind (fX2_asNow M) fun M1 =>
(Option.bind (fX2_lamps (M1 1)) fun v2 =>
(Option.bind (am_rd (M1 1 0) 36 (34 : Int32)) fun v3 =>
(Option.bind (fX2_layFar M1 a2 (v2 &&& (v3 ^^^ (-1 : Int32)))) fun M4 =>
(Option.bind (am_rd (M4 1 18) 10 a1) fun v5 =>
(if v5 < (1000000 : Int32) then
(if a3 = 0 then
(Option.bind (am_rd (M4 1 18) 10 a1) fun v6 =>
some (v6, M4))
 else
(Option.bind (am_it (fX2_way_L84 a1 a2 M4) am_fuel ((-6 : Int32), (9 : Int32))) fun (s11 : (Int32 × Int32)) =>
some (s11.1, M4)))
 else
some ((-6 : Int32), M4))))))))))
set_option maxHeartbeats 4000000 in
theorem kX2_way (G : am_G) (M : am_M) (a1 : Int32) (a2 : Int32) (a3 : Int32) : am_C G 7 mX2_way [am_r 1 0, am_i a1, am_i a2, am_i a3] M (fun r => (some (am_i r.1), r.2)) (fX2_way M a1 a2 a3) := by
  refine am_met (nL := 6) (ls0 := [some (am_r 1 0), some (am_i a1), some (am_i a2), some (am_i a3), none, none]) (by decide) rfl (Nat.le_of_ble_eq_true rfl) (And.intro rfl (And.intro rfl (And.intro rfl (And.intro rfl trivial)))) ?_
  unfold fX2_way
  refine am_iload_n dX2_way_0 rfl rfl ?_
  refine am_cST lc_X2_71 (kX2_isGallery G M a1) rfl rfl rfl rfl rfl dX2_way_1 ?_
  refine am_if_eq (tgt := 14) dX2_way_4 rfl ?_ ?_
  · refine am_iconst dX2_way_14 ic_m1 ?_
    exact am_iret dX2_way_15 rfl rfl
  · refine am_iload_n dX2_way_7 rfl rfl ?_
    refine am_cST lc_X2_71 (kX2_isGallery G M a2) rfl rfl rfl rfl rfl dX2_way_8 ?_
    refine am_if_ne (tgt := 16) dX2_way_11 rfl ?_ ?_
    · refine am_iconst dX2_way_14 ic_m1 ?_
      exact am_iret dX2_way_15 rfl rfl
    · refine am_iload_n dX2_way_16 rfl rfl ?_
      refine am_iconst dX2_way_17 ic_0 ?_
      refine am_iconst dX2_way_18 ic_1 ?_
      refine am_cST lc_X2_59 (kX2_in G M a3 (0 : Int32) (1 : Int32)) rfl rfl rfl rfl rfl dX2_way_19 ?_
      refine am_if_ne (tgt := 28) dX2_way_22 rfl ?_ ?_
      · refine am_bipush dX2_way_25 bp_m2 ?_
        exact am_iret dX2_way_27 rfl rfl
      · refine am_aload_n dX2_way_28 rfl rfl ?_
        refine am_cVU (as' := []) lc_X2_110 rfl (kX2_asNow G M) rfl rfl rfl rfl rfl rfl dX2_way_29 (fun M1 => ?_)
        refine am_aload_n dX2_way_32 rfl rfl ?_
        refine am_iload_n dX2_way_33 rfl rfl ?_
        refine am_aload_n dX2_way_34 rfl rfl ?_
        refine am_cVI (as' := []) lc_X2_116 rfl (kX2_lamps G M1) rfl rfl rfl rfl rfl rfl dX2_way_35 (fun v2 => ?_)
        refine am_aload_n dX2_way_38 rfl rfl ?_
        refine am_getA lf_X2_7 rfl rfl dX2_way_39 ?_
        refine am_bipush dX2_way_42 bp_34 ?_
        refine am_iald (β := Unit) rfl dX2_way_44 (fun v3 => ?_)
        refine am_iconst dX2_way_45 ic_m1 ?_
        refine am_ixor dX2_way_46 ?_
        refine am_iand dX2_way_47 ?_
        refine am_cVU (as' := [am_i a2, am_i (v2 &&& (v3 ^^^ (-1 : Int32)))]) lc_X2_145 rfl (kX2_layFar G M1 a2 (v2 &&& (v3 ^^^ (-1 : Int32)))) rfl rfl rfl rfl rfl rfl dX2_way_48 (fun M4 => ?_)
        refine am_aload_n dX2_way_51 rfl rfl ?_
        refine am_getA lf_X2_40 rfl rfl dX2_way_52 ?_
        refine am_iload_n dX2_way_55 rfl rfl ?_
        refine am_iald (β := Unit) rfl dX2_way_56 (fun v5 => ?_)
        refine am_ldc dX2_way_57 q787 ?_
        refine am_icmp_lt (tgt := 65) dX2_way_59 rfl ?_ ?_
        · refine am_iload_n dX2_way_65 rfl rfl ?_
          refine am_if_ne (tgt := 76) dX2_way_66 rfl ?_ ?_
          · refine am_aload_n dX2_way_69 rfl rfl ?_
            refine am_getA lf_X2_40 rfl rfl dX2_way_70 ?_
            refine am_iload_n dX2_way_73 rfl rfl ?_
            refine am_iald (β := Unit) rfl dX2_way_74 (fun v6 => ?_)
            exact am_iret dX2_way_75 rfl rfl
          · refine am_bipush dX2_way_76 bp_m6 ?_
            refine am_istore [some (am_r 1 0), some (am_i a1), some (am_i a2), some (am_i a3), some (am_i (-6 : Int32)), none] dX2_way_78 rfl (Nat.le_of_ble_eq_true rfl) rfl ?_
            refine am_bipush dX2_way_80 bp_9 ?_
            refine am_istore [some (am_r 1 0), some (am_i a1), some (am_i a2), some (am_i a3), some (am_i (-6 : Int32)), some (am_i (9 : Int32))] dX2_way_82 rfl (Nat.le_of_ble_eq_true rfl) rfl ?_
            refine am_join (β := (Int32 × Int32)) 141 (fun s11 => [none, none, none, none, some (am_i s11.1), none]) (fun _ => []) (fun s11 => M4) (fun s11 => ?_) (fun hx10 => ?_)
            · refine am_iload dX2_way_141 rfl ?_
              exact am_iret dX2_way_143 rfl rfl
            refine am_drop (ls' := [some (am_r 1 0), some (am_i a1), some (am_i a2), none, some (am_i (-6 : Int32)), some (am_i (9 : Int32))]) (And.intro rfl (And.intro rfl (And.intro rfl (And.intro rfl (And.intro rfl trivial))))) ?_
            refine am_loop (σ := (Int32 × Int32)) (ls' := fun s7 => [some (am_r 1 0), some (am_i a1), some (am_i a2), none, some (am_i s7.1), some (am_i s7.2)]) (st' := fun _ => []) (M' := fun s7 => M4) (fun rec8 hr9 s7 => ?_) _ _
            unfold fX2_way_L84
            refine am_iload dX2_way_84 rfl ?_
            refine am_if_ltB (tgt := 141) dX2_way_86 rfl ?_ ?_
            · exact am_dr (hx10 (s7.1, s7.2)) (And.intro rfl trivial)
            · refine am_iload_n dX2_way_89 rfl rfl ?_
              refine am_iload_n dX2_way_90 rfl rfl ?_
              refine am_icmp_eqB (tgt := 141) dX2_way_91 rfl ?_ ?_
              · exact am_dr (hx10 (s7.1, s7.2)) (And.intro rfl trivial)
              · refine am_aload_n dX2_way_94 rfl rfl ?_
                refine am_getA lf_X2_25 rfl rfl dX2_way_95 ?_
                refine am_iload_n dX2_way_98 rfl rfl ?_
                refine am_as ?_
                refine am_iald (β := Unit) rfl dX2_way_99 (fun v12 => ?_)
                refine am_iload dX2_way_100 rfl ?_
                refine am_cST lc_X2_67 (kX2_has G M4 v12 s7.2) rfl rfl rfl rfl rfl dX2_way_102 ?_
                refine am_as ?_
                refine am_join (β := Int32) 133 (fun x13 => [some (am_r 1 0), some (am_i a1), some (am_i a2), none, some (am_i s7.1), some (am_i s7.2)]) (fun x13 => [am_i x13]) (fun x13 => M4) (fun x13 => ?_) (fun hm14 => ?_)
                · refine am_istore [some (am_r 1 0), some (am_i a1), some (am_i a2), none, some (am_i x13), some (am_i s7.2)] dX2_way_133 rfl (Nat.le_of_ble_eq_true rfl) rfl ?_
                  refine am_iinc [some (am_r 1 0), some (am_i a1), some (am_i a2), none, some (am_i x13), some (am_i (s7.2 + (-1)))] dX2_way_135 rfl ic_m1 rfl (Nat.le_of_ble_eq_true rfl) rfl ?_
                  refine am_goto (tgt := 84) dX2_way_138 rfl ?_
                  exact hr9 (x13, (s7.2 + (-1)))
                refine am_if_eqB (tgt := 131) dX2_way_105 rfl ?_ ?_
                · refine am_iload dX2_way_131 rfl ?_
                  exact hm14 s7.1
                · refine am_aload_n dX2_way_108 rfl rfl ?_
                  refine am_getA lf_X2_40 rfl rfl dX2_way_109 ?_
                  refine am_iload dX2_way_112 rfl ?_
                  refine am_as ?_
                  refine am_iald (β := Unit) rfl dX2_way_114 (fun v15 => ?_)
                  refine am_iconst dX2_way_115 ic_1 ?_
                  refine am_iadd dX2_way_116 ?_
                  refine am_aload_n dX2_way_117 rfl rfl ?_
                  refine am_getA lf_X2_40 rfl rfl dX2_way_118 ?_
                  refine am_iload_n dX2_way_121 rfl rfl ?_
                  refine am_as ?_
                  refine am_iald (β := Unit) rfl dX2_way_122 (fun v16 => ?_)
                  refine am_icmp_neB (tgt := 131) dX2_way_123 rfl ?_ ?_
                  · refine am_iload dX2_way_126 rfl ?_
                    refine am_goto (tgt := 133) dX2_way_128 rfl ?_
                    exact hm14 s7.2
                  · refine am_iload dX2_way_131 rfl ?_
                    exact hm14 s7.1
        · refine am_bipush dX2_way_62 bp_m6 ?_
          exact am_iret dX2_way_64 rfl rfl
def fX2_fewest_L45 (m : Nat → Nat → Int32) (s1 : (Int32 × Int32)) (rec2 : (Int32 × Int32) → Option (Int32 × Int32)) (s3 : (Int32 × Int32)) : Option (Int32 × Int32) :=
(if (10 : Int32) ≤ s3.2 then
some (s3.1, s3.2)
 else
(Option.bind (if (fX2_has s1.2 s3.2) = 0 then
some (0 : Int32)
 else
(Option.bind (am_rd (m 7) 10 s3.2) fun v4 =>
some ((1 : Int32) <<< (v4 &&& 31)))) fun (x5 : Int32) =>
rec2 ((s3.1 ||| x5), (s3.2 + 1))))
def fX2_fewest_L30 (m : Nat → Nat → Int32) (a1 : Int32) (rec1 : (Int32 × Int32) → Option (Int32 × Int32)) (s2 : (Int32 × Int32)) : Option (Int32 × Int32) :=
(if (1024 : Int32) ≤ s2.2 then
some (s2.1, s2.2)
 else
(Option.bind (am_it (fX2_fewest_L45 m s2) am_fuel (s2.2, (0 : Int32))) fun (s3 : (Int32 × Int32)) =>
(Option.bind (if (a1 &&& (s3.1 ^^^ (-1 : Int32))) = 0 then
(Option.bind (fX2_bits s2.2) fun v4 =>
(Option.bind (fX2_bits s2.1) fun v5 =>
(if v5 ≤ v4 then
some s2.1
 else
some s2.2)))
 else
some s2.1) fun (x6 : Int32) =>
rec1 (x6, (s2.2 + 1)))))
def fX2_fewest (m : Nat → Nat → Int32) (a1 : Int32) (a2 : Int32) : Option Int32 :=
(if (fX2_in a1 (0 : Int32) (1023 : Int32)) = 0 then
some (-2 : Int32)
 else
(if (fX2_in a2 (0 : Int32) (1 : Int32)) = 0 then
some (-2 : Int32)
 else
(Option.bind (am_it (fX2_fewest_L30 m a1) am_fuel ((1023 : Int32), (0 : Int32))) fun (s5 : (Int32 × Int32)) =>
(if a2 = (1 : Int32) then
some s5.1
 else
(Option.bind (fX2_bits s5.1) fun v18 =>
some v18)))))
set_option maxHeartbeats 4000000 in
theorem kX2_fewest (G : am_G) (M : am_M) (a1 : Int32) (a2 : Int32) : am_C G 2 mX2_fewest [am_r 1 0, am_i a1, am_i a2] M (fun r => (some (am_i r), M)) (fX2_fewest (M 1) a1 a2) := by
  refine am_met (nL := 7) (ls0 := [some (am_r 1 0), some (am_i a1), some (am_i a2), none, none, none, none]) (by decide) rfl (Nat.le_of_ble_eq_true rfl) (And.intro rfl (And.intro rfl (And.intro rfl trivial))) ?_
  unfold fX2_fewest
  refine am_iload_n dX2_fewest_0 rfl rfl ?_
  refine am_iconst dX2_fewest_1 ic_0 ?_
  refine am_sipush dX2_fewest_2 sp_1023 ?_
  refine am_cST lc_X2_59 (kX2_in G M a1 (0 : Int32) (1023 : Int32)) rfl rfl rfl rfl rfl dX2_fewest_5 ?_
  refine am_if_eq (tgt := 20) dX2_fewest_8 rfl ?_ ?_
  · refine am_bipush dX2_fewest_20 bp_m2 ?_
    exact am_iret dX2_fewest_22 rfl rfl
  · refine am_iload_n dX2_fewest_11 rfl rfl ?_
    refine am_iconst dX2_fewest_12 ic_0 ?_
    refine am_iconst dX2_fewest_13 ic_1 ?_
    refine am_cST lc_X2_59 (kX2_in G M a2 (0 : Int32) (1 : Int32)) rfl rfl rfl rfl rfl dX2_fewest_14 ?_
    refine am_if_ne (tgt := 23) dX2_fewest_17 rfl ?_ ?_
    · refine am_bipush dX2_fewest_20 bp_m2 ?_
      exact am_iret dX2_fewest_22 rfl rfl
    · refine am_sipush dX2_fewest_23 sp_1023 ?_
      refine am_istore_n [some (am_r 1 0), some (am_i a1), some (am_i a2), some (am_i (1023 : Int32)), none, none, none] dX2_fewest_26 rfl rfl (Nat.le_of_ble_eq_true rfl) rfl ?_
      refine am_iconst dX2_fewest_27 ic_0 ?_
      refine am_istore [some (am_r 1 0), some (am_i a1), some (am_i a2), some (am_i (1023 : Int32)), some (am_i (0 : Int32)), none, none] dX2_fewest_28 rfl (Nat.le_of_ble_eq_true rfl) rfl ?_
      refine am_join (β := (Int32 × Int32)) 120 (fun s5 => [none, none, some (am_i a2), some (am_i s5.1), none, none, none]) (fun _ => []) (fun s5 => M) (fun s5 => ?_) (fun hx4 => ?_)
      · refine am_iload_n dX2_fewest_120 rfl rfl ?_
        refine am_iconst dX2_fewest_121 ic_1 ?_
        refine am_icmp_ne (tgt := 129) dX2_fewest_122 rfl ?_ ?_
        · refine am_iload_n dX2_fewest_125 rfl rfl ?_
          refine am_goto (tgt := 133) dX2_fewest_126 rfl ?_
          exact am_iret dX2_fewest_133 rfl rfl
        · refine am_iload_n dX2_fewest_129 rfl rfl ?_
          refine am_cSI lc_X2_75 (kX2_bits G M s5.1) rfl rfl rfl rfl rfl dX2_fewest_130 (fun v18 => ?_)
          exact am_iret dX2_fewest_133 rfl rfl
      refine am_loop (σ := (Int32 × Int32)) (ls' := fun s1 => [some (am_r 1 0), some (am_i a1), some (am_i a2), some (am_i s1.1), some (am_i s1.2), none, none]) (st' := fun _ => []) (M' := fun s1 => M) (fun rec2 hr3 s1 => ?_) _ _
      unfold fX2_fewest_L30
      refine am_iload dX2_fewest_30 rfl ?_
      refine am_sipush dX2_fewest_32 sp_1024 ?_
      refine am_icmp_geB (tgt := 120) dX2_fewest_35 rfl ?_ ?_
      · exact am_dr (hx4 (s1.1, s1.2)) (And.intro rfl (And.intro rfl trivial))
      · refine am_iload dX2_fewest_38 rfl ?_
        refine am_istore [some (am_r 1 0), some (am_i a1), some (am_i a2), some (am_i s1.1), some (am_i s1.2), some (am_i s1.2), none] dX2_fewest_40 rfl (Nat.le_of_ble_eq_true rfl) rfl ?_
        refine am_iconst dX2_fewest_42 ic_0 ?_
        refine am_istore [some (am_r 1 0), some (am_i a1), some (am_i a2), some (am_i s1.1), some (am_i s1.2), some (am_i s1.2), some (am_i (0 : Int32))] dX2_fewest_43 rfl (Nat.le_of_ble_eq_true rfl) rfl ?_
        refine am_as ?_
        refine am_join (β := (Int32 × Int32)) 86 (fun s10 => [some (am_r 1 0), some (am_i a1), some (am_i a2), some (am_i s1.1), some (am_i s1.2), some (am_i s10.1), none]) (fun _ => []) (fun s10 => M) (fun s10 => ?_) (fun hx9 => ?_)
        · refine am_iload_n dX2_fewest_86 rfl rfl ?_
          refine am_iload dX2_fewest_87 rfl ?_
          refine am_iconst dX2_fewest_89 ic_m1 ?_
          refine am_ixor dX2_fewest_90 ?_
          refine am_iand dX2_fewest_91 ?_
          refine am_as ?_
          refine am_join (β := Int32) 113 (fun x14 => [some (am_r 1 0), some (am_i a1), some (am_i a2), some (am_i s1.1), some (am_i s1.2), some (am_i s10.1), none]) (fun x14 => [am_i x14]) (fun x14 => M) (fun x14 => ?_) (fun hm15 => ?_)
          · refine am_istore_n [some (am_r 1 0), some (am_i a1), some (am_i a2), some (am_i x14), some (am_i s1.2), some (am_i s10.1), none] dX2_fewest_113 rfl rfl (Nat.le_of_ble_eq_true rfl) rfl ?_
            refine am_iinc [some (am_r 1 0), some (am_i a1), some (am_i a2), some (am_i x14), some (am_i (s1.2 + 1)), some (am_i s10.1), none] dX2_fewest_114 rfl ic_1 rfl (Nat.le_of_ble_eq_true rfl) rfl ?_
            refine am_goto (tgt := 30) dX2_fewest_117 rfl ?_
            exact am_dr (hr3 (x14, (s1.2 + 1))) (And.intro rfl (And.intro rfl (And.intro rfl (And.intro rfl (And.intro rfl trivial)))))
          refine am_if_neB (tgt := 112) dX2_fewest_92 rfl ?_ ?_
          · refine am_iload dX2_fewest_95 rfl ?_
            refine am_as ?_
            refine am_cSI lc_X2_75 (kX2_bits G M s1.2) rfl rfl rfl rfl rfl dX2_fewest_97 (fun v16 => ?_)
            refine am_iload_n dX2_fewest_100 rfl rfl ?_
            refine am_as ?_
            refine am_cSI lc_X2_75 (kX2_bits G M s1.1) rfl rfl rfl rfl rfl dX2_fewest_101 (fun v17 => ?_)
            refine am_icmp_geB (tgt := 112) dX2_fewest_104 rfl ?_ ?_
            · refine am_iload_n dX2_fewest_112 rfl rfl ?_
              exact hm15 s1.1
            · refine am_iload dX2_fewest_107 rfl ?_
              refine am_goto (tgt := 113) dX2_fewest_109 rfl ?_
              exact hm15 s1.2
          · refine am_iload_n dX2_fewest_112 rfl rfl ?_
            exact hm15 s1.1
        refine am_loop (σ := (Int32 × Int32)) (ls' := fun s6 => [some (am_r 1 0), some (am_i a1), some (am_i a2), some (am_i s1.1), some (am_i s1.2), some (am_i s6.1), some (am_i s6.2)]) (st' := fun _ => []) (M' := fun s6 => M) (fun rec7 hr8 s6 => ?_) _ _
        unfold fX2_fewest_L45
        refine am_iload dX2_fewest_45 rfl ?_
        refine am_bipush dX2_fewest_47 bp_10 ?_
        refine am_icmp_geB (tgt := 86) dX2_fewest_49 rfl ?_ ?_
        · exact am_dr (hx9 (s6.1, s6.2)) (And.intro rfl (And.intro rfl (And.intro rfl (And.intro rfl (And.intro rfl (And.intro rfl trivial))))))
        · refine am_iload dX2_fewest_52 rfl ?_
          refine am_iload dX2_fewest_54 rfl ?_
          refine am_iload dX2_fewest_56 rfl ?_
          refine am_cST lc_X2_67 (kX2_has G M s1.2 s6.2) rfl rfl rfl rfl rfl dX2_fewest_58 ?_
          refine am_as ?_
          refine am_join (β := Int32) 77 (fun x11 => [some (am_r 1 0), some (am_i a1), some (am_i a2), some (am_i s1.1), some (am_i s1.2), some (am_i s6.1), some (am_i s6.2)]) (fun x11 => [am_i x11, am_i s6.1]) (fun x11 => M) (fun x11 => ?_) (fun hm12 => ?_)
          · refine am_ior dX2_fewest_77 ?_
            refine am_istore [some (am_r 1 0), some (am_i a1), some (am_i a2), some (am_i s1.1), some (am_i s1.2), some (am_i (s6.1 ||| x11)), some (am_i s6.2)] dX2_fewest_78 rfl (Nat.le_of_ble_eq_true rfl) rfl ?_
            refine am_iinc [some (am_r 1 0), some (am_i a1), some (am_i a2), some (am_i s1.1), some (am_i s1.2), some (am_i (s6.1 ||| x11)), some (am_i (s6.2 + 1))] dX2_fewest_80 rfl ic_1 rfl (Nat.le_of_ble_eq_true rfl) rfl ?_
            refine am_goto (tgt := 45) dX2_fewest_83 rfl ?_
            exact hr8 ((s6.1 ||| x11), (s6.2 + 1))
          refine am_if_eqB (tgt := 76) dX2_fewest_61 rfl ?_ ?_
          · refine am_iconst dX2_fewest_76 ic_0 ?_
            exact hm12 (0 : Int32)
          · refine am_iconst dX2_fewest_64 ic_1 ?_
            refine am_aload_n dX2_fewest_65 rfl rfl ?_
            refine am_getA lf_X2_28 rfl rfl dX2_fewest_66 ?_
            refine am_iload dX2_fewest_69 rfl ?_
            refine am_as ?_
            refine am_iald (β := Unit) rfl dX2_fewest_71 (fun v13 => ?_)
            refine am_ishl dX2_fewest_72 ?_
            refine am_goto (tgt := 77) dX2_fewest_73 rfl ?_
            exact hm12 ((1 : Int32) <<< (v13 &&& 31))
def fX2_keep_L102 (s1 : (Int32 × Int32)) (s2 : (Int32 × Int32)) (M3 : am_M) (v4 : Int32) (rec5 : (Int32 × Int32) → Option (Int32 × Int32)) (s6 : (Int32 × Int32)) : Option (Int32 × Int32) :=
(if s1.2 ≤ s6.2 then
some (s6.1, s6.2)
 else
(if s6.1 = 0 then
some (s6.1, s6.2)
 else
(if (fX2_has s2.2 s1.2) = 0 then
some (s6.1, s6.2)
 else
(Option.bind (if (fX2_has s2.2 s6.2) = 0 then
some (1 : Int32)
 else
(if (fX2_has (M3 1 8 0) v4) = 0 then
some (1 : Int32)
 else
(Option.bind (fX2_sings (M3 1) s6.2 v4) fun v7 =>
(if v7 = 0 then
some (1 : Int32)
 else
(Option.bind (fX2_areHushed (M3 1) s1.2 s6.2) fun v8 =>
(if v8 = 0 then
some (1 : Int32)
 else
some (0 : Int32))))))) fun (x9 : Int32) =>
rec5 (x9, (s6.2 + 1))))))
def fX2_keep_L48 (M1 : am_M) (s2 : (Int32 × Int32)) (rec3 : (Int32 × Int32) → Option (Int32 × Int32)) (s4 : (Int32 × Int32)) : Option (Int32 × Int32) :=
(if (8 : Int32) ≤ s4.2 then
some (s4.1, s4.2)
 else
(if s4.1 = 0 then
some (s4.1, s4.2)
 else
(Option.bind (am_rd (M1 1 1) 36 ((16 : Int32) + s4.2)) fun v5 =>
(Option.bind (if (fX2_has s2.2 s4.2) = 0 then
some (1 : Int32)
 else
(Option.bind (fX2_sings (M1 1) s4.2 v5) fun v6 =>
(if v6 = 0 then
some (0 : Int32)
 else
some (1 : Int32)))) fun (x7 : Int32) =>
(Option.bind (am_it (fX2_keep_L102 s4 s2 M1 v5) am_fuel (x7, (0 : Int32))) fun (s8 : (Int32 × Int32)) =>
rec3 (s8.1, (s4.2 + 1)))))))
def fX2_keep_L20 (M1 : am_M) (rec2 : (Int32 × Int32) → Option (Int32 × Int32)) (s3 : (Int32 × Int32)) : Option (Int32 × Int32) :=
(if (256 : Int32) ≤ s3.2 then
some (s3.1, s3.2)
 else
(Option.bind (fX2_bits s3.2) fun v4 =>
(Option.bind (fX2_bits s3.1) fun v5 =>
(Option.bind (if v4 ≤ v5 then
some (0 : Int32)
 else
some (1 : Int32)) fun (x6 : Int32) =>
(Option.bind (am_it (fX2_keep_L48 M1 s3) am_fuel (x6, (0 : Int32))) fun (s7 : (Int32 × Int32)) =>
(Option.bind (if s7.1 = 0 then
some s3.1
 else
some s3.2) fun (x8 : Int32) =>
rec2 (x8, (s3.2 + 1))))))))
def fX2_keep (M : am_M) (a1 : Int32) : Option (Int32 × am_M) :=
(if (fX2_in a1 (0 : Int32) (1 : Int32)) = 0 then
some ((-2 : Int32), M)
 else
(Option.bind (fX2_asNow M) fun M1 =>
(Option.bind (am_it (fX2_keep_L20 M1) am_fuel ((0 : Int32), (0 : Int32))) fun (s6 : (Int32 × Int32)) =>
(if a1 = (1 : Int32) then
some (s6.1, M1)
 else
(Option.bind (fX2_bits s6.1) fun v31 =>
some (v31, M1))))))
set_option maxHeartbeats 4000000 in
theorem kX2_keep (G : am_G) (M : am_M) (a1 : Int32) : am_C G 4 mX2_keep [am_r 1 0, am_i a1] M (fun r => (some (am_i r.1), r.2)) (fX2_keep M a1) := by
  refine am_met (nL := 8) (ls0 := [some (am_r 1 0), some (am_i a1), none, none, none, none, none, none]) (by decide) rfl (Nat.le_of_ble_eq_true rfl) (And.intro rfl (And.intro rfl trivial)) ?_
  unfold fX2_keep
  refine am_iload_n dX2_keep_0 rfl rfl ?_
  refine am_iconst dX2_keep_1 ic_0 ?_
  refine am_iconst dX2_keep_2 ic_1 ?_
  refine am_cST lc_X2_59 (kX2_in G M a1 (0 : Int32) (1 : Int32)) rfl rfl rfl rfl rfl dX2_keep_3 ?_
  refine am_if_ne (tgt := 12) dX2_keep_6 rfl ?_ ?_
  · refine am_bipush dX2_keep_9 bp_m2 ?_
    exact am_iret dX2_keep_11 rfl rfl
  · refine am_aload_n dX2_keep_12 rfl rfl ?_
    refine am_cVU (as' := []) lc_X2_110 rfl (kX2_asNow G M) rfl rfl rfl rfl rfl rfl dX2_keep_13 (fun M1 => ?_)
    refine am_iconst dX2_keep_16 ic_0 ?_
    refine am_istore_n [some (am_r 1 0), some (am_i a1), some (am_i (0 : Int32)), none, none, none, none, none] dX2_keep_17 rfl rfl (Nat.le_of_ble_eq_true rfl) rfl ?_
    refine am_iconst dX2_keep_18 ic_0 ?_
    refine am_istore_n [some (am_r 1 0), some (am_i a1), some (am_i (0 : Int32)), some (am_i (0 : Int32)), none, none, none, none] dX2_keep_19 rfl rfl (Nat.le_of_ble_eq_true rfl) rfl ?_
    refine am_join (β := (Int32 × Int32)) 202 (fun s6 => [none, some (am_i a1), some (am_i s6.1), none, none, none, none, none]) (fun _ => []) (fun s6 => M1) (fun s6 => ?_) (fun hx5 => ?_)
    · refine am_iload_n dX2_keep_202 rfl rfl ?_
      refine am_iconst dX2_keep_203 ic_1 ?_
      refine am_icmp_ne (tgt := 211) dX2_keep_204 rfl ?_ ?_
      · refine am_iload_n dX2_keep_207 rfl rfl ?_
        refine am_goto (tgt := 215) dX2_keep_208 rfl ?_
        exact am_iret dX2_keep_215 rfl rfl
      · refine am_iload_n dX2_keep_211 rfl rfl ?_
        refine am_cSI lc_X2_75 (kX2_bits G M1 s6.1) rfl rfl rfl rfl rfl dX2_keep_212 (fun v31 => ?_)
        exact am_iret dX2_keep_215 rfl rfl
    refine am_loop (σ := (Int32 × Int32)) (ls' := fun s2 => [some (am_r 1 0), some (am_i a1), some (am_i s2.1), some (am_i s2.2), none, none, none, none]) (st' := fun _ => []) (M' := fun s2 => M1) (fun rec3 hr4 s2 => ?_) _ _
    unfold fX2_keep_L20
    refine am_iload_n dX2_keep_20 rfl rfl ?_
    refine am_sipush dX2_keep_21 sp_256 ?_
    refine am_icmp_geB (tgt := 202) dX2_keep_24 rfl ?_ ?_
    · exact am_dr (hx5 (s2.1, s2.2)) (And.intro rfl (And.intro rfl trivial))
    · refine am_iload_n dX2_keep_27 rfl rfl ?_
      refine am_as ?_
      refine am_cSI lc_X2_75 (kX2_bits G M1 s2.2) rfl rfl rfl rfl rfl dX2_keep_28 (fun v7 => ?_)
      refine am_iload_n dX2_keep_31 rfl rfl ?_
      refine am_as ?_
      refine am_cSI lc_X2_75 (kX2_bits G M1 s2.1) rfl rfl rfl rfl rfl dX2_keep_32 (fun v8 => ?_)
      refine am_as ?_
      refine am_join (β := Int32) 43 (fun x9 => [some (am_r 1 0), some (am_i a1), some (am_i s2.1), some (am_i s2.2), none, none, none, none]) (fun x9 => [am_i x9]) (fun x9 => M1) (fun x9 => ?_) (fun hm10 => ?_)
      · refine am_istore [some (am_r 1 0), some (am_i a1), some (am_i s2.1), some (am_i s2.2), some (am_i x9), none, none, none] dX2_keep_43 rfl (Nat.le_of_ble_eq_true rfl) rfl ?_
        refine am_iconst dX2_keep_45 ic_0 ?_
        refine am_istore [some (am_r 1 0), some (am_i a1), some (am_i s2.1), some (am_i s2.2), some (am_i x9), some (am_i (0 : Int32)), none, none] dX2_keep_46 rfl (Nat.le_of_ble_eq_true rfl) rfl ?_
        refine am_as ?_
        refine am_join (β := (Int32 × Int32)) 185 (fun s15 => [some (am_r 1 0), some (am_i a1), some (am_i s2.1), some (am_i s2.2), some (am_i s15.1), none, none, none]) (fun _ => []) (fun s15 => M1) (fun s15 => ?_) (fun hx14 => ?_)
        · refine am_iload dX2_keep_185 rfl ?_
          refine am_as ?_
          refine am_join (β := Int32) 195 (fun x29 => [some (am_r 1 0), some (am_i a1), some (am_i s2.1), some (am_i s2.2), some (am_i s15.1), none, none, none]) (fun x29 => [am_i x29]) (fun x29 => M1) (fun x29 => ?_) (fun hm30 => ?_)
          · refine am_istore_n [some (am_r 1 0), some (am_i a1), some (am_i x29), some (am_i s2.2), some (am_i s15.1), none, none, none] dX2_keep_195 rfl rfl (Nat.le_of_ble_eq_true rfl) rfl ?_
            refine am_iinc [some (am_r 1 0), some (am_i a1), some (am_i x29), some (am_i (s2.2 + 1)), some (am_i s15.1), none, none, none] dX2_keep_196 rfl ic_1 rfl (Nat.le_of_ble_eq_true rfl) rfl ?_
            refine am_goto (tgt := 20) dX2_keep_199 rfl ?_
            exact am_dr (hr4 (x29, (s2.2 + 1))) (And.intro rfl (And.intro rfl (And.intro rfl (And.intro rfl trivial))))
          refine am_if_eqB (tgt := 194) dX2_keep_187 rfl ?_ ?_
          · refine am_iload_n dX2_keep_194 rfl rfl ?_
            exact hm30 s2.1
          · refine am_iload_n dX2_keep_190 rfl rfl ?_
            refine am_goto (tgt := 195) dX2_keep_191 rfl ?_
            exact hm30 s2.2
        refine am_loop (σ := (Int32 × Int32)) (ls' := fun s11 => [some (am_r 1 0), some (am_i a1), some (am_i s2.1), some (am_i s2.2), some (am_i s11.1), some (am_i s11.2), none, none]) (st' := fun _ => []) (M' := fun s11 => M1) (fun rec12 hr13 s11 => ?_) _ _
        unfold fX2_keep_L48
        refine am_iload dX2_keep_48 rfl ?_
        refine am_bipush dX2_keep_50 bp_8 ?_
        refine am_icmp_geB (tgt := 185) dX2_keep_52 rfl ?_ ?_
        · exact am_dr (hx14 (s11.1, s11.2)) (And.intro rfl (And.intro rfl (And.intro rfl (And.intro rfl (And.intro rfl trivial)))))
        · refine am_iload dX2_keep_55 rfl ?_
          refine am_if_eqB (tgt := 185) dX2_keep_57 rfl ?_ ?_
          · exact am_dr (hx14 (s11.1, s11.2)) (And.intro rfl (And.intro rfl (And.intro rfl (And.intro rfl (And.intro rfl trivial)))))
          · refine am_aload_n dX2_keep_60 rfl rfl ?_
            refine am_getA lf_X2_13 rfl rfl dX2_keep_61 ?_
            refine am_bipush dX2_keep_64 bp_16 ?_
            refine am_iload dX2_keep_66 rfl ?_
            refine am_iadd dX2_keep_68 ?_
            refine am_as ?_
            refine am_iald (β := Unit) rfl dX2_keep_69 (fun v16 => ?_)
            refine am_istore [some (am_r 1 0), some (am_i a1), some (am_i s2.1), some (am_i s2.2), some (am_i s11.1), some (am_i s11.2), some (am_i v16), none] dX2_keep_70 rfl (Nat.le_of_ble_eq_true rfl) rfl ?_
            refine am_iload_n dX2_keep_72 rfl rfl ?_
            refine am_iload dX2_keep_73 rfl ?_
            refine am_cST lc_X2_67 (kX2_has G M1 s2.2 s11.2) rfl rfl rfl rfl rfl dX2_keep_75 ?_
            refine am_as ?_
            refine am_join (β := Int32) 97 (fun x17 => [some (am_r 1 0), some (am_i a1), some (am_i s2.1), some (am_i s2.2), some (am_i s11.1), some (am_i s11.2), some (am_i v16), none]) (fun x17 => [am_i x17]) (fun x17 => M1) (fun x17 => ?_) (fun hm18 => ?_)
            · refine am_istore [some (am_r 1 0), some (am_i a1), some (am_i s2.1), some (am_i s2.2), some (am_i x17), some (am_i s11.2), some (am_i v16), none] dX2_keep_97 rfl (Nat.le_of_ble_eq_true rfl) rfl ?_
              refine am_iconst dX2_keep_99 ic_0 ?_
              refine am_istore [some (am_r 1 0), some (am_i a1), some (am_i s2.1), some (am_i s2.2), some (am_i x17), some (am_i s11.2), some (am_i v16), some (am_i (0 : Int32))] dX2_keep_100 rfl (Nat.le_of_ble_eq_true rfl) rfl ?_
              refine am_as ?_
              refine am_join (β := (Int32 × Int32)) 179 (fun s24 => [some (am_r 1 0), some (am_i a1), some (am_i s2.1), some (am_i s2.2), some (am_i s24.1), some (am_i s11.2), none, none]) (fun _ => []) (fun s24 => M1) (fun s24 => ?_) (fun hx23 => ?_)
              · refine am_iinc [some (am_r 1 0), some (am_i a1), some (am_i s2.1), some (am_i s2.2), some (am_i s24.1), some (am_i (s11.2 + 1)), none, none] dX2_keep_179 rfl ic_1 rfl (Nat.le_of_ble_eq_true rfl) rfl ?_
                refine am_goto (tgt := 48) dX2_keep_182 rfl ?_
                exact hr13 (s24.1, (s11.2 + 1))
              refine am_loop (σ := (Int32 × Int32)) (ls' := fun s20 => [some (am_r 1 0), some (am_i a1), some (am_i s2.1), some (am_i s2.2), some (am_i s20.1), some (am_i s11.2), some (am_i v16), some (am_i s20.2)]) (st' := fun _ => []) (M' := fun s20 => M1) (fun rec21 hr22 s20 => ?_) _ _
              unfold fX2_keep_L102
              refine am_iload dX2_keep_102 rfl ?_
              refine am_iload dX2_keep_104 rfl ?_
              refine am_icmp_geB (tgt := 179) dX2_keep_106 rfl ?_ ?_
              · exact am_dr (hx23 (s20.1, s20.2)) (And.intro rfl (And.intro rfl (And.intro rfl (And.intro rfl (And.intro rfl (And.intro rfl trivial))))))
              · refine am_iload dX2_keep_109 rfl ?_
                refine am_if_eqB (tgt := 179) dX2_keep_111 rfl ?_ ?_
                · exact am_dr (hx23 (s20.1, s20.2)) (And.intro rfl (And.intro rfl (And.intro rfl (And.intro rfl (And.intro rfl (And.intro rfl trivial))))))
                · refine am_iload_n dX2_keep_114 rfl rfl ?_
                  refine am_iload dX2_keep_115 rfl ?_
                  refine am_cST lc_X2_67 (kX2_has G M1 s2.2 s11.2) rfl rfl rfl rfl rfl dX2_keep_117 ?_
                  refine am_if_eqB (tgt := 179) dX2_keep_120 rfl ?_ ?_
                  · exact am_dr (hx23 (s20.1, s20.2)) (And.intro rfl (And.intro rfl (And.intro rfl (And.intro rfl (And.intro rfl (And.intro rfl trivial))))))
                  · refine am_iload_n dX2_keep_123 rfl rfl ?_
                    refine am_iload dX2_keep_124 rfl ?_
                    refine am_cST lc_X2_67 (kX2_has G M1 s2.2 s20.2) rfl rfl rfl rfl rfl dX2_keep_126 ?_
                    refine am_as ?_
                    refine am_join (β := Int32) 171 (fun x25 => [some (am_r 1 0), some (am_i a1), some (am_i s2.1), some (am_i s2.2), some (am_i s20.1), some (am_i s11.2), some (am_i v16), some (am_i s20.2)]) (fun x25 => [am_i x25]) (fun x25 => M1) (fun x25 => ?_) (fun hm26 => ?_)
                    · refine am_istore [some (am_r 1 0), some (am_i a1), some (am_i s2.1), some (am_i s2.2), some (am_i x25), some (am_i s11.2), some (am_i v16), some (am_i s20.2)] dX2_keep_171 rfl (Nat.le_of_ble_eq_true rfl) rfl ?_
                      refine am_iinc [some (am_r 1 0), some (am_i a1), some (am_i s2.1), some (am_i s2.2), some (am_i x25), some (am_i s11.2), some (am_i v16), some (am_i (s20.2 + 1))] dX2_keep_173 rfl ic_1 rfl (Nat.le_of_ble_eq_true rfl) rfl ?_
                      refine am_goto (tgt := 102) dX2_keep_176 rfl ?_
                      exact hr22 (x25, (s20.2 + 1))
                    refine am_if_eqB (tgt := 166) dX2_keep_129 rfl ?_ ?_
                    · refine am_iconst dX2_keep_166 ic_1 ?_
                      refine am_goto (tgt := 171) dX2_keep_167 rfl ?_
                      exact hm26 (1 : Int32)
                    · refine am_aload_n dX2_keep_132 rfl rfl ?_
                      refine am_get lf_X2_79 rfl rfl dX2_keep_133 ?_
                      refine am_iload dX2_keep_136 rfl ?_
                      refine am_cST lc_X2_67 (kX2_has G M1 (M1 1 8 0) v16) rfl rfl rfl rfl rfl dX2_keep_138 ?_
                      refine am_if_eqB (tgt := 166) dX2_keep_141 rfl ?_ ?_
                      · refine am_iconst dX2_keep_166 ic_1 ?_
                        refine am_goto (tgt := 171) dX2_keep_167 rfl ?_
                        exact hm26 (1 : Int32)
                      · refine am_aload_n dX2_keep_144 rfl rfl ?_
                        refine am_iload dX2_keep_145 rfl ?_
                        refine am_iload dX2_keep_147 rfl ?_
                        refine am_as ?_
                        refine am_cVI (as' := [am_i s20.2, am_i v16]) lc_X2_92 rfl (kX2_sings G M1 s20.2 v16) rfl rfl rfl rfl rfl rfl dX2_keep_149 (fun v27 => ?_)
                        refine am_if_eqB (tgt := 166) dX2_keep_152 rfl ?_ ?_
                        · refine am_iconst dX2_keep_166 ic_1 ?_
                          refine am_goto (tgt := 171) dX2_keep_167 rfl ?_
                          exact hm26 (1 : Int32)
                        · refine am_aload_n dX2_keep_155 rfl rfl ?_
                          refine am_iload dX2_keep_156 rfl ?_
                          refine am_iload dX2_keep_158 rfl ?_
                          refine am_as ?_
                          refine am_cVI (as' := [am_i s11.2, am_i s20.2]) lc_X2_95 rfl (kX2_areHushed G M1 s11.2 s20.2) rfl rfl rfl rfl rfl rfl dX2_keep_160 (fun v28 => ?_)
                          refine am_if_neB (tgt := 170) dX2_keep_163 rfl ?_ ?_
                          · refine am_iconst dX2_keep_166 ic_1 ?_
                            refine am_goto (tgt := 171) dX2_keep_167 rfl ?_
                            exact hm26 (1 : Int32)
                          · refine am_iconst dX2_keep_170 ic_0 ?_
                            exact hm26 (0 : Int32)
            refine am_if_eqB (tgt := 92) dX2_keep_78 rfl ?_ ?_
            · refine am_iconst dX2_keep_92 ic_1 ?_
              refine am_goto (tgt := 97) dX2_keep_93 rfl ?_
              exact hm18 (1 : Int32)
            · refine am_aload_n dX2_keep_81 rfl rfl ?_
              refine am_iload dX2_keep_82 rfl ?_
              refine am_iload dX2_keep_84 rfl ?_
              refine am_as ?_
              refine am_cVI (as' := [am_i s11.2, am_i v16]) lc_X2_92 rfl (kX2_sings G M1 s11.2 v16) rfl rfl rfl rfl rfl rfl dX2_keep_86 (fun v19 => ?_)
              refine am_if_eqB (tgt := 96) dX2_keep_89 rfl ?_ ?_
              · refine am_iconst dX2_keep_96 ic_0 ?_
                exact hm18 (0 : Int32)
              · refine am_iconst dX2_keep_92 ic_1 ?_
                refine am_goto (tgt := 97) dX2_keep_93 rfl ?_
                exact hm18 (1 : Int32)
      refine am_icmp_leB (tgt := 42) dX2_keep_35 rfl ?_ ?_
      · refine am_iconst dX2_keep_42 ic_0 ?_
        exact hm10 (0 : Int32)
      · refine am_iconst dX2_keep_38 ic_1 ?_
        refine am_goto (tgt := 43) dX2_keep_39 rfl ?_
        exact hm10 (1 : Int32)
def fX2_cut_L22 (M1 : am_M) (rec2 : (Int32 × Int32) → Option (Int32 × Int32)) (s3 : (Int32 × Int32)) : Option (Int32 × Int32) :=
(if (8 : Int32) ≤ s3.2 then
some (s3.1, s3.2)
 else
(Option.bind (if (fX2_has (M1 1 2 0) s3.2) = 0 then
some (0 : Int32)
 else
(Option.bind (am_rd (M1 1 0) 36 ((16 : Int32) + s3.2)) fun v4 =>
(Option.bind (am_rd (M1 1 18) 10 v4) fun v5 =>
(if v5 < (1000000 : Int32) then
some (0 : Int32)
 else
some ((1 : Int32) <<< (s3.2 &&& 31)))))) fun (x6 : Int32) =>
rec2 ((s3.1 ||| x6), (s3.2 + 1))))
def fX2_cut (M : am_M) : Option (Int32 × am_M) :=
(Option.bind (am_rd (M 1 0) 36 (34 : Int32)) fun v1 =>
(Option.bind (fX2_layFar M (0 : Int32) ((1023 : Int32) &&& (v1 ^^^ (-1 : Int32)))) fun M2 =>
(Option.bind (am_it (fX2_cut_L22 M2) am_fuel ((0 : Int32), (0 : Int32))) fun (s7 : (Int32 × Int32)) =>
some (s7.1, M2))))
set_option maxHeartbeats 4000000 in
theorem kX2_cut (G : am_G) (M : am_M)  : am_C G 3 mX2_cut [am_r 1 0] M (fun r => (some (am_i r.1), r.2)) (fX2_cut M) := by
  refine am_met (nL := 3) (ls0 := [some (am_r 1 0), none, none]) (by decide) rfl (Nat.le_of_ble_eq_true rfl) (And.intro rfl trivial) ?_
  unfold fX2_cut
  refine am_aload_n dX2_cut_0 rfl rfl ?_
  refine am_iconst dX2_cut_1 ic_0 ?_
  refine am_sipush dX2_cut_2 sp_1023 ?_
  refine am_aload_n dX2_cut_5 rfl rfl ?_
  refine am_getA lf_X2_7 rfl rfl dX2_cut_6 ?_
  refine am_bipush dX2_cut_9 bp_34 ?_
  refine am_iald (β := Unit) rfl dX2_cut_11 (fun v1 => ?_)
  refine am_iconst dX2_cut_12 ic_m1 ?_
  refine am_ixor dX2_cut_13 ?_
  refine am_iand dX2_cut_14 ?_
  refine am_cVU (as' := [am_i (0 : Int32), am_i ((1023 : Int32) &&& (v1 ^^^ (-1 : Int32)))]) lc_X2_145 rfl (kX2_layFar G M (0 : Int32) ((1023 : Int32) &&& (v1 ^^^ (-1 : Int32)))) rfl rfl rfl rfl rfl rfl dX2_cut_15 (fun M2 => ?_)
  refine am_iconst dX2_cut_18 ic_0 ?_
  refine am_istore_n [some (am_r 1 0), some (am_i (0 : Int32)), none] dX2_cut_19 rfl rfl (Nat.le_of_ble_eq_true rfl) rfl ?_
  refine am_iconst dX2_cut_20 ic_0 ?_
  refine am_istore_n [some (am_r 1 0), some (am_i (0 : Int32)), some (am_i (0 : Int32))] dX2_cut_21 rfl rfl (Nat.le_of_ble_eq_true rfl) rfl ?_
  refine am_join (β := (Int32 × Int32)) 74 (fun s7 => [none, some (am_i s7.1), none]) (fun _ => []) (fun s7 => M2) (fun s7 => ?_) (fun hx6 => ?_)
  · refine am_iload_n dX2_cut_74 rfl rfl ?_
    exact am_iret dX2_cut_75 rfl rfl
  refine am_loop (σ := (Int32 × Int32)) (ls' := fun s3 => [some (am_r 1 0), some (am_i s3.1), some (am_i s3.2)]) (st' := fun _ => []) (M' := fun s3 => M2) (fun rec4 hr5 s3 => ?_) _ _
  unfold fX2_cut_L22
  refine am_iload_n dX2_cut_22 rfl rfl ?_
  refine am_bipush dX2_cut_23 bp_8 ?_
  refine am_icmp_geB (tgt := 74) dX2_cut_25 rfl ?_ ?_
  · exact am_dr (hx6 (s3.1, s3.2)) (And.intro rfl trivial)
  · refine am_iload_n dX2_cut_28 rfl rfl ?_
    refine am_aload_n dX2_cut_29 rfl rfl ?_
    refine am_get lf_X2_63 rfl rfl dX2_cut_30 ?_
    refine am_iload_n dX2_cut_33 rfl rfl ?_
    refine am_cST lc_X2_67 (kX2_has G M2 (M2 1 2 0) s3.2) rfl rfl rfl rfl rfl dX2_cut_34 ?_
    refine am_as ?_
    refine am_join (β := Int32) 66 (fun x8 => [some (am_r 1 0), some (am_i s3.1), some (am_i s3.2)]) (fun x8 => [am_i x8, am_i s3.1]) (fun x8 => M2) (fun x8 => ?_) (fun hm9 => ?_)
    · refine am_ior dX2_cut_66 ?_
      refine am_istore_n [some (am_r 1 0), some (am_i (s3.1 ||| x8)), some (am_i s3.2)] dX2_cut_67 rfl rfl (Nat.le_of_ble_eq_true rfl) rfl ?_
      refine am_iinc [some (am_r 1 0), some (am_i (s3.1 ||| x8)), some (am_i (s3.2 + 1))] dX2_cut_68 rfl ic_1 rfl (Nat.le_of_ble_eq_true rfl) rfl ?_
      refine am_goto (tgt := 22) dX2_cut_71 rfl ?_
      exact hr5 ((s3.1 ||| x8), (s3.2 + 1))
    refine am_if_eqB (tgt := 65) dX2_cut_37 rfl ?_ ?_
    · refine am_iconst dX2_cut_65 ic_0 ?_
      exact hm9 (0 : Int32)
    · refine am_aload_n dX2_cut_40 rfl rfl ?_
      refine am_getA lf_X2_40 rfl rfl dX2_cut_41 ?_
      refine am_aload_n dX2_cut_44 rfl rfl ?_
      refine am_getA lf_X2_7 rfl rfl dX2_cut_45 ?_
      refine am_bipush dX2_cut_48 bp_16 ?_
      refine am_iload_n dX2_cut_50 rfl rfl ?_
      refine am_iadd dX2_cut_51 ?_
      refine am_as ?_
      refine am_iald (β := Unit) rfl dX2_cut_52 (fun v10 => ?_)
      refine am_as ?_
      refine am_iald (β := Unit) rfl dX2_cut_53 (fun v11 => ?_)
      refine am_ldc dX2_cut_54 q787 ?_
      refine am_icmp_ltB (tgt := 65) dX2_cut_56 rfl ?_ ?_
      · refine am_iconst dX2_cut_65 ic_0 ?_
        exact hm9 (0 : Int32)
      · refine am_iconst dX2_cut_59 ic_1 ?_
        refine am_iload_n dX2_cut_60 rfl rfl ?_
        refine am_ishl dX2_cut_61 ?_
        refine am_goto (tgt := 66) dX2_cut_62 rfl ?_
        exact hm9 ((1 : Int32) <<< (s3.2 &&& 31))
