/-! walks, printed by gen/decomp.py -/
set_option maxRecDepth 100000
def fX1_light_L8 (m : Nat → Nat → Int32) (a1 : Int32) (rec1 : (Int32 × Int32) → Option (Int32 × Int32)) (s2 : (Int32 × Int32)) : Option (Int32 × Int32) :=
(if (10 : Int32) ≤ s2.2 then
some (s2.1, s2.2)
 else
(Option.bind (am_rd (m 1) 10 s2.2) fun v3 =>
(Option.bind (if v3 = a1 then
(Option.bind (fX1_sungIn m s2.2) fun v4 =>
some (jv_max s2.1 (v4 / (2 : Int32))))
 else
some s2.1) fun (x5 : Int32) =>
rec1 (x5, (s2.2 + 1)))))
def fX1_light (m : Nat → Nat → Int32) (a1 : Int32) : Option Int32 :=
(Option.bind (fX1_sungIn m a1) fun v1 =>
(Option.bind (am_it (fX1_light_L8 m a1) am_fuel (v1, (0 : Int32))) fun (s6 : (Int32 × Int32)) =>
some s6.1))
set_option maxHeartbeats 4000000 in
theorem kX1_light (G : am_G) (M : am_M) (j : Nat) (a1 : Int32) : am_C G 6 mX1_light [am_r (j + 2) 0, am_i a1] M (fun r => (some (am_i r), M)) (fX1_light (M (j + 2)) a1) := by
  refine am_met (nL := 4) (ls0 := [some (am_r (j + 2) 0), some (am_i a1), none, none]) (by decide) rfl (Nat.le_of_ble_eq_true rfl) (And.intro rfl (And.intro rfl trivial)) ?_
  unfold fX1_light
  refine am_aload_n dX1_light_0 rfl rfl ?_
  refine am_iload_n dX1_light_1 rfl rfl ?_
  refine am_cVI (as' := [am_i a1]) lc_X1_95 rfl (kX1_sungIn G M j a1) rfl rfl rfl rfl rfl rfl dX1_light_2 (fun v1 => ?_)
  refine am_istore_n [some (am_r (j + 2) 0), some (am_i a1), some (am_i v1), none] dX1_light_5 rfl rfl (Nat.le_of_ble_eq_true rfl) rfl ?_
  refine am_iconst dX1_light_6 ic_0 ?_
  refine am_istore_n [some (am_r (j + 2) 0), some (am_i a1), some (am_i v1), some (am_i (0 : Int32))] dX1_light_7 rfl rfl (Nat.le_of_ble_eq_true rfl) rfl ?_
  refine am_join (β := (Int32 × Int32)) 46 (fun s6 => [none, none, some (am_i s6.1), none]) (fun _ => []) (fun s6 => M) (fun s6 => ?_) (fun hx5 => ?_)
  · refine am_iload_n dX1_light_46 rfl rfl ?_
    exact am_iret dX1_light_47 rfl rfl
  refine am_loop (σ := (Int32 × Int32)) (ls' := fun s2 => [some (am_r (j + 2) 0), some (am_i a1), some (am_i s2.1), some (am_i s2.2)]) (st' := fun _ => []) (M' := fun s2 => M) (fun rec3 hr4 s2 => ?_) _ _
  unfold fX1_light_L8
  refine am_iload_n dX1_light_8 rfl rfl ?_
  refine am_bipush dX1_light_9 bp_10 ?_
  refine am_icmp_geB (tgt := 46) dX1_light_11 rfl ?_ ?_
  · exact am_dr (hx5 (s2.1, s2.2)) (And.intro rfl trivial)
  · refine am_aload_n dX1_light_14 rfl rfl ?_
    refine am_getA lf_X1_15 rfl rfl dX1_light_15 ?_
    refine am_iload_n dX1_light_18 rfl rfl ?_
    refine am_as ?_
    refine am_iald (β := Unit) rfl dX1_light_19 (fun v7 => ?_)
    refine am_iload_n dX1_light_20 rfl rfl ?_
    refine am_as ?_
    refine am_join (β := Int32) 39 (fun x8 => [some (am_r (j + 2) 0), some (am_i a1), some (am_i s2.1), some (am_i s2.2)]) (fun x8 => [am_i x8]) (fun x8 => M) (fun x8 => ?_) (fun hm9 => ?_)
    · refine am_istore_n [some (am_r (j + 2) 0), some (am_i a1), some (am_i x8), some (am_i s2.2)] dX1_light_39 rfl rfl (Nat.le_of_ble_eq_true rfl) rfl ?_
      refine am_iinc [some (am_r (j + 2) 0), some (am_i a1), some (am_i x8), some (am_i (s2.2 + 1))] dX1_light_40 rfl ic_1 rfl (Nat.le_of_ble_eq_true rfl) rfl ?_
      refine am_goto (tgt := 8) dX1_light_43 rfl ?_
      exact hr4 (x8, (s2.2 + 1))
    refine am_icmp_neB (tgt := 38) dX1_light_21 rfl ?_ ?_
    · refine am_iload_n dX1_light_24 rfl rfl ?_
      refine am_aload_n dX1_light_25 rfl rfl ?_
      refine am_iload_n dX1_light_26 rfl rfl ?_
      refine am_as ?_
      refine am_cVI (as' := [am_i s2.2]) lc_X1_95 rfl (kX1_sungIn G M j s2.2) rfl rfl rfl rfl rfl rfl dX1_light_27 (fun v10 => ?_)
      refine am_iconst dX1_light_30 ic_2 ?_
      refine am_idiv dX1_light_31 (by decide) ?_
      refine am_mmax q350 rfl rfl dX1_light_32 ?_
      refine am_goto (tgt := 39) dX1_light_35 rfl ?_
      exact hm9 (jv_max s2.1 (v10 / (2 : Int32)))
    · refine am_iload_n dX1_light_38 rfl rfl ?_
      exact hm9 s2.1
def fX1_lamps_L4 (m : Nat → Nat → Int32) (rec1 : (Int32 × Int32) → Option (Int32 × Int32)) (s2 : (Int32 × Int32)) : Option (Int32 × Int32) :=
(if (10 : Int32) ≤ s2.2 then
some (s2.1, s2.2)
 else
(Option.bind (fX1_light m s2.2) fun v3 =>
(Option.bind (if v3 ≤ 0 then
some (0 : Int32)
 else
some ((1 : Int32) <<< (s2.2 &&& 31))) fun (x4 : Int32) =>
rec1 ((s2.1 ||| x4), (s2.2 + 1)))))
def fX1_lamps (m : Nat → Nat → Int32) : Option Int32 :=
(Option.bind (am_it (fX1_lamps_L4 m) am_fuel ((0 : Int32), (0 : Int32))) fun (s5 : (Int32 × Int32)) =>
some s5.1)
set_option maxHeartbeats 4000000 in
theorem kX1_lamps (G : am_G) (M : am_M) (j : Nat)  : am_C G 7 mX1_lamps [am_r (j + 2) 0] M (fun r => (some (am_i r), M)) (fX1_lamps (M (j + 2))) := by
  refine am_met (nL := 3) (ls0 := [some (am_r (j + 2) 0), none, none]) (by decide) rfl (Nat.le_of_ble_eq_true rfl) (And.intro rfl trivial) ?_
  unfold fX1_lamps
  refine am_iconst dX1_lamps_0 ic_0 ?_
  refine am_istore_n [some (am_r (j + 2) 0), some (am_i (0 : Int32)), none] dX1_lamps_1 rfl rfl (Nat.le_of_ble_eq_true rfl) rfl ?_
  refine am_iconst dX1_lamps_2 ic_0 ?_
  refine am_istore_n [some (am_r (j + 2) 0), some (am_i (0 : Int32)), some (am_i (0 : Int32))] dX1_lamps_3 rfl rfl (Nat.le_of_ble_eq_true rfl) rfl ?_
  refine am_join (β := (Int32 × Int32)) 34 (fun s5 => [none, some (am_i s5.1), none]) (fun _ => []) (fun s5 => M) (fun s5 => ?_) (fun hx4 => ?_)
  · refine am_iload_n dX1_lamps_34 rfl rfl ?_
    exact am_iret dX1_lamps_35 rfl rfl
  refine am_loop (σ := (Int32 × Int32)) (ls' := fun s1 => [some (am_r (j + 2) 0), some (am_i s1.1), some (am_i s1.2)]) (st' := fun _ => []) (M' := fun s1 => M) (fun rec2 hr3 s1 => ?_) _ _
  unfold fX1_lamps_L4
  refine am_iload_n dX1_lamps_4 rfl rfl ?_
  refine am_bipush dX1_lamps_5 bp_10 ?_
  refine am_icmp_geB (tgt := 34) dX1_lamps_7 rfl ?_ ?_
  · exact am_dr (hx4 (s1.1, s1.2)) (And.intro rfl trivial)
  · refine am_iload_n dX1_lamps_10 rfl rfl ?_
    refine am_aload_n dX1_lamps_11 rfl rfl ?_
    refine am_iload_n dX1_lamps_12 rfl rfl ?_
    refine am_as ?_
    refine am_cVI (as' := [am_i s1.2]) lc_X1_99 rfl (kX1_light G M j s1.2) rfl rfl rfl rfl rfl rfl dX1_lamps_13 (fun v6 => ?_)
    refine am_as ?_
    refine am_join (β := Int32) 26 (fun x7 => [some (am_r (j + 2) 0), some (am_i s1.1), some (am_i s1.2)]) (fun x7 => [am_i x7, am_i s1.1]) (fun x7 => M) (fun x7 => ?_) (fun hm8 => ?_)
    · refine am_ior dX1_lamps_26 ?_
      refine am_istore_n [some (am_r (j + 2) 0), some (am_i (s1.1 ||| x7)), some (am_i s1.2)] dX1_lamps_27 rfl rfl (Nat.le_of_ble_eq_true rfl) rfl ?_
      refine am_iinc [some (am_r (j + 2) 0), some (am_i (s1.1 ||| x7)), some (am_i (s1.2 + 1))] dX1_lamps_28 rfl ic_1 rfl (Nat.le_of_ble_eq_true rfl) rfl ?_
      refine am_goto (tgt := 4) dX1_lamps_31 rfl ?_
      exact hr3 ((s1.1 ||| x7), (s1.2 + 1))
    refine am_if_leB (tgt := 25) dX1_lamps_16 rfl ?_ ?_
    · refine am_iconst dX1_lamps_25 ic_0 ?_
      exact hm8 (0 : Int32)
    · refine am_iconst dX1_lamps_19 ic_1 ?_
      refine am_iload_n dX1_lamps_20 rfl rfl ?_
      refine am_ishl dX1_lamps_21 ?_
      refine am_goto (tgt := 26) dX1_lamps_22 rfl ?_
      exact hm8 ((1 : Int32) <<< (s1.2 &&& 31))
def fX1_cutCoal_L27 (j : Nat) (rec1 : (Int32 × am_M) → Option (Int32 × am_M)) (s2 : (Int32 × am_M)) : Option (Int32 × am_M) :=
(if (8 : Int32) ≤ s2.1 then
some (s2.1, s2.2)
 else
(Option.bind (if (fX1_isThere ((s2.2) (j + 2)) s2.1) = 0 then
some (0 : Int32)
 else
(Option.bind (am_rd ((s2.2) (j + 2) 11) 8 s2.1) fun v3 =>
(if 0 ≤ v3 then
some (0 : Int32)
 else
some (1 : Int32)))) fun (x4 : Int32) =>
(Option.bind (if x4 = 0 then
some (0 : Int32)
 else
(Option.bind (am_rd ((s2.2) (j + 2) 10) 8 s2.1) fun v5 =>
(Option.bind (am_rd ((s2.2) (j + 2) 16) 10 v5) fun v6 =>
some v6))) fun (x7 : Int32) =>
(Option.bind (am_rd ((s2.2) (j + 2) 10) 8 s2.1) fun v8 =>
(Option.bind (am_rd ((s2.2) (j + 2) 2) 10 v8) fun v9 =>
(Option.bind (if x7 = 0 then
some (0 : Int32)
 else
(if x7 ≤ (8 : Int32) then
some (1 : Int32)
 else
some (2 : Int32))) fun (x10 : Int32) =>
(Option.bind (am_wr s2.2 (j + 2) 2 10 v8 (v9 + x10)) fun M11 =>
rec1 ((s2.1 + 1), M11))))))))
def fX1_cutCoal_L2 (j : Nat) (rec1 : (Int32 × am_M) → Option (Int32 × am_M)) (s2 : (Int32 × am_M)) : Option (Int32 × am_M) :=
(if (10 : Int32) ≤ s2.1 then
some (s2.1, s2.2)
 else
(Option.bind (fX1_light ((s2.2) (j + 2)) s2.1) fun v3 =>
(Option.bind (am_wr s2.2 (j + 2) 16 10 s2.1 v3) fun M4 =>
rec1 ((s2.1 + 1), M4))))
def fX1_cutCoal (M : am_M) (j : Nat) : Option am_M :=
(Option.bind (am_it (fX1_cutCoal_L2 j) am_fuel ((0 : Int32), M)) fun (s5 : (Int32 × am_M)) =>
(Option.bind (am_it (fX1_cutCoal_L27 j) am_fuel ((0 : Int32), s5.2)) fun (s12 : (Int32 × am_M)) =>
some s12.2))
set_option maxHeartbeats 4000000 in
theorem kX1_cutCoal (G : am_G) (M : am_M) (j : Nat)  : am_C G 7 mX1_cutCoal [am_r (j + 2) 0] M (fun r => (none, r)) (fX1_cutCoal M j) := by
  refine am_met (nL := 4) (ls0 := [some (am_r (j + 2) 0), none, none, none]) (by decide) rfl (Nat.le_of_ble_eq_true rfl) (And.intro rfl trivial) ?_
  unfold fX1_cutCoal
  refine am_iconst dX1_cutCoal_0 ic_0 ?_
  refine am_istore_n [some (am_r (j + 2) 0), some (am_i (0 : Int32)), none, none] dX1_cutCoal_1 rfl rfl (Nat.le_of_ble_eq_true rfl) rfl ?_
  refine am_join (β := (Int32 × am_M)) 25 (fun s5 => [some (am_r (j + 2) 0), none, none, none]) (fun _ => []) (fun s5 => s5.2) (fun s5 => ?_) (fun hx4 => ?_)
  · refine am_iconst dX1_cutCoal_25 ic_0 ?_
    refine am_istore_n [some (am_r (j + 2) 0), some (am_i (0 : Int32)), none, none] dX1_cutCoal_26 rfl rfl (Nat.le_of_ble_eq_true rfl) rfl ?_
    refine am_join (β := (Int32 × am_M)) 115 (fun s12 => [none, none, none, none]) (fun _ => []) (fun s12 => s12.2) (fun s12 => ?_) (fun hx11 => ?_)
    · exact am_vret dX1_cutCoal_115 rfl rfl
    refine am_loop (σ := (Int32 × am_M)) (ls' := fun s8 => [some (am_r (j + 2) 0), some (am_i s8.1), none, none]) (st' := fun _ => []) (M' := fun s8 => s8.2) (fun rec9 hr10 s8 => ?_) _ _
    unfold fX1_cutCoal_L27
    refine am_iload_n dX1_cutCoal_27 rfl rfl ?_
    refine am_bipush dX1_cutCoal_28 bp_8 ?_
    refine am_icmp_geB (tgt := 115) dX1_cutCoal_30 rfl ?_ ?_
    · exact am_dr (hx11 (s8.1, s8.2)) trivial
    · refine am_aload_n dX1_cutCoal_33 rfl rfl ?_
      refine am_iload_n dX1_cutCoal_34 rfl rfl ?_
      refine am_cVT (as' := [am_i s8.1]) lc_X1_76 rfl (kX1_isThere G s8.2 j s8.1) rfl rfl rfl rfl rfl rfl dX1_cutCoal_35 ?_
      refine am_as ?_
      refine am_join (β := Int32) 55 (fun x13 => [some (am_r (j + 2) 0), some (am_i s8.1), none, none]) (fun x13 => [am_i x13]) (fun x13 => s8.2) (fun x13 => ?_) (fun hm14 => ?_)
      · refine am_istore_n [some (am_r (j + 2) 0), some (am_i s8.1), some (am_i x13), none] dX1_cutCoal_55 rfl rfl (Nat.le_of_ble_eq_true rfl) rfl ?_
        refine am_iload_n dX1_cutCoal_56 rfl rfl ?_
        refine am_as ?_
        refine am_join (β := Int32) 75 (fun x16 => [some (am_r (j + 2) 0), some (am_i s8.1), some (am_i x13), none]) (fun x16 => [am_i x16]) (fun x16 => s8.2) (fun x16 => ?_) (fun hm17 => ?_)
        · refine am_istore_n [some (am_r (j + 2) 0), some (am_i s8.1), some (am_i x13), some (am_i x16)] dX1_cutCoal_75 rfl rfl (Nat.le_of_ble_eq_true rfl) rfl ?_
          refine am_aload_n dX1_cutCoal_76 rfl rfl ?_
          refine am_getA lf_X1_18 rfl rfl dX1_cutCoal_77 ?_
          refine am_aload_n dX1_cutCoal_80 rfl rfl ?_
          refine am_getA lf_X1_33 rfl rfl dX1_cutCoal_81 ?_
          refine am_iload_n dX1_cutCoal_84 rfl rfl ?_
          refine am_as ?_
          refine am_iald (β := Unit) rfl dX1_cutCoal_85 (fun v20 => ?_)
          refine am_dup2 dX1_cutCoal_86 rfl rfl ?_
          refine am_as ?_
          refine am_iald (β := Unit) rfl dX1_cutCoal_87 (fun v21 => ?_)
          refine am_iload_n dX1_cutCoal_88 rfl rfl ?_
          refine am_as ?_
          refine am_join (β := Int32) 107 (fun x22 => [some (am_r (j + 2) 0), some (am_i s8.1), some (am_i x13), some (am_i x16)]) (fun x22 => [am_i x22, am_i v21, am_i v20, am_r (j + 2) 3]) (fun x22 => s8.2) (fun x22 => ?_) (fun hm23 => ?_)
          · refine am_iadd dX1_cutCoal_107 ?_
            refine am_as ?_
            refine am_iast rfl dX1_cutCoal_108 (fun M24 => ?_)
            refine am_iinc [some (am_r (j + 2) 0), some (am_i (s8.1 + 1)), some (am_i x13), some (am_i x16)] dX1_cutCoal_109 rfl ic_1 rfl (Nat.le_of_ble_eq_true rfl) rfl ?_
            refine am_goto (tgt := 27) dX1_cutCoal_112 rfl ?_
            exact am_dr (hr10 ((s8.1 + 1), M24)) (And.intro rfl (And.intro rfl trivial))
          refine am_if_neB (tgt := 96) dX1_cutCoal_89 rfl ?_ ?_
          · refine am_iconst dX1_cutCoal_92 ic_0 ?_
            refine am_goto (tgt := 107) dX1_cutCoal_93 rfl ?_
            exact hm23 (0 : Int32)
          · refine am_iload_n dX1_cutCoal_96 rfl rfl ?_
            refine am_bipush dX1_cutCoal_97 bp_8 ?_
            refine am_icmp_leB (tgt := 106) dX1_cutCoal_99 rfl ?_ ?_
            · refine am_iconst dX1_cutCoal_106 ic_1 ?_
              exact hm23 (1 : Int32)
            · refine am_iconst dX1_cutCoal_102 ic_2 ?_
              refine am_goto (tgt := 107) dX1_cutCoal_103 rfl ?_
              exact hm23 (2 : Int32)
        refine am_if_eqB (tgt := 74) dX1_cutCoal_57 rfl ?_ ?_
        · refine am_iconst dX1_cutCoal_74 ic_0 ?_
          exact hm17 (0 : Int32)
        · refine am_aload_n dX1_cutCoal_60 rfl rfl ?_
          refine am_getA lf_X1_45 rfl rfl dX1_cutCoal_61 ?_
          refine am_aload_n dX1_cutCoal_64 rfl rfl ?_
          refine am_getA lf_X1_33 rfl rfl dX1_cutCoal_65 ?_
          refine am_iload_n dX1_cutCoal_68 rfl rfl ?_
          refine am_as ?_
          refine am_iald (β := Unit) rfl dX1_cutCoal_69 (fun v18 => ?_)
          refine am_as ?_
          refine am_iald (β := Unit) rfl dX1_cutCoal_70 (fun v19 => ?_)
          refine am_goto (tgt := 75) dX1_cutCoal_71 rfl ?_
          exact hm17 v19
      refine am_if_eqB (tgt := 54) dX1_cutCoal_38 rfl ?_ ?_
      · refine am_iconst dX1_cutCoal_54 ic_0 ?_
        exact hm14 (0 : Int32)
      · refine am_aload_n dX1_cutCoal_41 rfl rfl ?_
        refine am_getA lf_X1_36 rfl rfl dX1_cutCoal_42 ?_
        refine am_iload_n dX1_cutCoal_45 rfl rfl ?_
        refine am_as ?_
        refine am_iald (β := Unit) rfl dX1_cutCoal_46 (fun v15 => ?_)
        refine am_if_geB (tgt := 54) dX1_cutCoal_47 rfl ?_ ?_
        · refine am_iconst dX1_cutCoal_54 ic_0 ?_
          exact hm14 (0 : Int32)
        · refine am_iconst dX1_cutCoal_50 ic_1 ?_
          refine am_goto (tgt := 55) dX1_cutCoal_51 rfl ?_
          exact hm14 (1 : Int32)
  refine am_loop (σ := (Int32 × am_M)) (ls' := fun s1 => [some (am_r (j + 2) 0), some (am_i s1.1), none, none]) (st' := fun _ => []) (M' := fun s1 => s1.2) (fun rec2 hr3 s1 => ?_) _ _
  unfold fX1_cutCoal_L2
  refine am_iload_n dX1_cutCoal_2 rfl rfl ?_
  refine am_bipush dX1_cutCoal_3 bp_10 ?_
  refine am_icmp_geB (tgt := 25) dX1_cutCoal_5 rfl ?_ ?_
  · exact am_dr (hx4 (s1.1, s1.2)) (And.intro rfl trivial)
  · refine am_aload_n dX1_cutCoal_8 rfl rfl ?_
    refine am_getA lf_X1_45 rfl rfl dX1_cutCoal_9 ?_
    refine am_iload_n dX1_cutCoal_12 rfl rfl ?_
    refine am_aload_n dX1_cutCoal_13 rfl rfl ?_
    refine am_iload_n dX1_cutCoal_14 rfl rfl ?_
    refine am_as ?_
    refine am_cVI (as' := [am_i s1.1]) lc_X1_99 rfl (kX1_light G s1.2 j s1.1) rfl rfl rfl rfl rfl rfl dX1_cutCoal_15 (fun v6 => ?_)
    refine am_as ?_
    refine am_iast rfl dX1_cutCoal_18 (fun M7 => ?_)
    refine am_iinc [some (am_r (j + 2) 0), some (am_i (s1.1 + 1)), none, none] dX1_cutCoal_19 rfl ic_1 rfl (Nat.le_of_ble_eq_true rfl) rfl ?_
    refine am_goto (tgt := 2) dX1_cutCoal_22 rfl ?_
    exact hr3 ((s1.1 + 1), M7)
def fX1_breathe (M : am_M) (j : Nat) (a1 : Int32) : Option am_M :=
(Option.bind (am_rd (M (j + 2) 11) 8 a1) fun v1 =>
(if 0 ≤ v1 then
(Option.bind (am_rd (M (j + 2) 9) 8 a1) fun v2 =>
(Option.bind (am_wr M (j + 2) 9 8 a1 (v2 - (1 : Int32))) fun M3 =>
(Option.bind (am_rd (M3 (j + 2) 9) 8 a1) fun v4 =>
(Option.bind (if v4 = 0 then
some (-6 : Int32)
 else
(Option.bind (am_rd (M3 (j + 2) 11) 8 a1) fun v7 =>
some v7)) fun (x5 : Int32) =>
(Option.bind (am_wr M3 (j + 2) 11 8 a1 x5) fun M8 =>
some M8)))))
 else
(Option.bind (am_rd (M (j + 2) 8) 8 a1) fun v9 =>
(Option.bind (am_rd (M (j + 2) 9) 8 a1) fun v10 =>
(Option.bind (am_wr M (j + 2) 9 8 a1 (jv_min v9 (v10 + (1 : Int32)))) fun M11 =>
some M11)))))
set_option maxHeartbeats 4000000 in
theorem kX1_breathe (G : am_G) (M : am_M) (j : Nat) (a1 : Int32) : am_C G 1 mX1_breathe [am_r (j + 2) 0, am_i a1] M (fun r => (none, r)) (fX1_breathe M j a1) := by
  refine am_met (nL := 2) (ls0 := [some (am_r (j + 2) 0), some (am_i a1)]) (by decide) rfl (Nat.le_of_ble_eq_true rfl) (And.intro rfl (And.intro rfl trivial)) ?_
  unfold fX1_breathe
  refine am_aload_n dX1_breathe_0 rfl rfl ?_
  refine am_getA lf_X1_36 rfl rfl dX1_breathe_1 ?_
  refine am_iload_n dX1_breathe_4 rfl rfl ?_
  refine am_iald (β := Unit) rfl dX1_breathe_5 (fun v1 => ?_)
  refine am_if_ge (tgt := 33) dX1_breathe_6 rfl ?_ ?_
  · refine am_aload_n dX1_breathe_33 rfl rfl ?_
    refine am_getA lf_X1_30 rfl rfl dX1_breathe_34 ?_
    refine am_iload_n dX1_breathe_37 rfl rfl ?_
    refine am_dup2 dX1_breathe_38 rfl rfl ?_
    refine am_iald (β := Unit) rfl dX1_breathe_39 (fun v2 => ?_)
    refine am_iconst dX1_breathe_40 ic_1 ?_
    refine am_isub dX1_breathe_41 ?_
    refine am_iast rfl dX1_breathe_42 (fun M3 => ?_)
    refine am_aload_n dX1_breathe_43 rfl rfl ?_
    refine am_getA lf_X1_36 rfl rfl dX1_breathe_44 ?_
    refine am_iload_n dX1_breathe_47 rfl rfl ?_
    refine am_aload_n dX1_breathe_48 rfl rfl ?_
    refine am_getA lf_X1_30 rfl rfl dX1_breathe_49 ?_
    refine am_iload_n dX1_breathe_52 rfl rfl ?_
    refine am_iald (β := Unit) rfl dX1_breathe_53 (fun v4 => ?_)
    refine am_join (β := Int32) 68 (fun x5 => [some (am_r (j + 2) 0), some (am_i a1)]) (fun x5 => [am_i x5, am_i a1, am_r (j + 2) 12]) (fun x5 => M3) (fun x5 => ?_) (fun hm6 => ?_)
    · refine am_iast rfl dX1_breathe_68 (fun M8 => ?_)
      exact am_vret dX1_breathe_69 rfl rfl
    refine am_if_neB (tgt := 62) dX1_breathe_54 rfl ?_ ?_
    · refine am_bipush dX1_breathe_57 bp_m6 ?_
      refine am_goto (tgt := 68) dX1_breathe_59 rfl ?_
      exact hm6 (-6 : Int32)
    · refine am_aload_n dX1_breathe_62 rfl rfl ?_
      refine am_getA lf_X1_36 rfl rfl dX1_breathe_63 ?_
      refine am_iload_n dX1_breathe_66 rfl rfl ?_
      refine am_as ?_
      refine am_iald (β := Unit) rfl dX1_breathe_67 (fun v7 => ?_)
      exact hm6 v7
  · refine am_aload_n dX1_breathe_9 rfl rfl ?_
    refine am_getA lf_X1_30 rfl rfl dX1_breathe_10 ?_
    refine am_iload_n dX1_breathe_13 rfl rfl ?_
    refine am_aload_n dX1_breathe_14 rfl rfl ?_
    refine am_getA lf_X1_27 rfl rfl dX1_breathe_15 ?_
    refine am_iload_n dX1_breathe_18 rfl rfl ?_
    refine am_iald (β := Unit) rfl dX1_breathe_19 (fun v9 => ?_)
    refine am_aload_n dX1_breathe_20 rfl rfl ?_
    refine am_getA lf_X1_30 rfl rfl dX1_breathe_21 ?_
    refine am_iload_n dX1_breathe_24 rfl rfl ?_
    refine am_iald (β := Unit) rfl dX1_breathe_25 (fun v10 => ?_)
    refine am_iconst dX1_breathe_26 ic_1 ?_
    refine am_iadd dX1_breathe_27 ?_
    refine am_mmin q369 rfl rfl dX1_breathe_28 ?_
    refine am_iast rfl dX1_breathe_31 (fun M11 => ?_)
    exact am_vret dX1_breathe_32 rfl rfl
def fX1_pass_L6 (j : Nat) (rec1 : (Int32 × am_M) → Option (Int32 × am_M)) (s2 : (Int32 × am_M)) : Option (Int32 × am_M) :=
(if (8 : Int32) ≤ s2.1 then
some (s2.1, s2.2)
 else
(Option.bind (if (fX1_isThere ((s2.2) (j + 2)) s2.1) = 0 then
some s2.2
 else
(Option.bind (fX1_breathe s2.2 j s2.1) fun M3 =>
some M3)) fun (x4 : am_M) =>
rec1 ((s2.1 + 1), x4)))
def fX1_pass (M : am_M) (j : Nat) : Option am_M :=
(Option.bind (fX1_cutCoal M j) fun M1 =>
(Option.bind (am_it (fX1_pass_L6 j) am_fuel ((0 : Int32), M1)) fun (s6 : (Int32 × am_M)) =>
some (am_put s6.2 (j + 2) 12 (((s6.2) (j + 2) 12 0) + (1 : Int32)))))
set_option maxHeartbeats 4000000 in
theorem kX1_pass (G : am_G) (M : am_M) (j : Nat)  : am_C G 8 mX1_pass [am_r (j + 2) 0] M (fun r => (none, r)) (fX1_pass M j) := by
  refine am_met (nL := 2) (ls0 := [some (am_r (j + 2) 0), none]) (by decide) rfl (Nat.le_of_ble_eq_true rfl) (And.intro rfl trivial) ?_
  unfold fX1_pass
  refine am_aload_n dX1_pass_0 rfl rfl ?_
  refine am_cVU (as' := []) lc_X1_115 rfl (kX1_cutCoal G M j) rfl rfl rfl rfl rfl rfl dX1_pass_1 (fun M1 => ?_)
  refine am_iconst dX1_pass_4 ic_0 ?_
  refine am_istore_n [some (am_r (j + 2) 0), some (am_i (0 : Int32))] dX1_pass_5 rfl rfl (Nat.le_of_ble_eq_true rfl) rfl ?_
  refine am_join (β := (Int32 × am_M)) 31 (fun s6 => [some (am_r (j + 2) 0), none]) (fun _ => []) (fun s6 => s6.2) (fun s6 => ?_) (fun hx5 => ?_)
  · refine am_aload_n dX1_pass_31 rfl rfl ?_
    refine am_dup dX1_pass_32 rfl ?_
    refine am_get lf_X1_66 rfl rfl dX1_pass_33 ?_
    refine am_iconst dX1_pass_36 ic_1 ?_
    refine am_iadd dX1_pass_37 ?_
    refine am_putf lf_X1_66 rfl rfl dX1_pass_38 ?_
    exact am_vret dX1_pass_41 rfl rfl
  refine am_loop (σ := (Int32 × am_M)) (ls' := fun s2 => [some (am_r (j + 2) 0), some (am_i s2.1)]) (st' := fun _ => []) (M' := fun s2 => s2.2) (fun rec3 hr4 s2 => ?_) _ _
  unfold fX1_pass_L6
  refine am_iload_n dX1_pass_6 rfl rfl ?_
  refine am_bipush dX1_pass_7 bp_8 ?_
  refine am_icmp_geB (tgt := 31) dX1_pass_9 rfl ?_ ?_
  · exact am_dr (hx5 (s2.1, s2.2)) (And.intro rfl trivial)
  · refine am_aload_n dX1_pass_12 rfl rfl ?_
    refine am_iload_n dX1_pass_13 rfl rfl ?_
    refine am_cVT (as' := [am_i s2.1]) lc_X1_76 rfl (kX1_isThere G s2.2 j s2.1) rfl rfl rfl rfl rfl rfl dX1_pass_14 ?_
    refine am_as ?_
    refine am_join (β := am_M) 25 (fun x7 => [some (am_r (j + 2) 0), some (am_i s2.1)]) (fun x7 => []) (fun x7 => x7) (fun x7 => ?_) (fun hm8 => ?_)
    · refine am_iinc [some (am_r (j + 2) 0), some (am_i (s2.1 + 1))] dX1_pass_25 rfl ic_1 rfl (Nat.le_of_ble_eq_true rfl) rfl ?_
      refine am_goto (tgt := 6) dX1_pass_28 rfl ?_
      exact hr4 ((s2.1 + 1), x7)
    refine am_if_eqB (tgt := 25) dX1_pass_17 rfl ?_ ?_
    · exact hm8 s2.2
    · refine am_aload_n dX1_pass_20 rfl rfl ?_
      refine am_iload_n dX1_pass_21 rfl rfl ?_
      refine am_as ?_
      refine am_cVU (as' := [am_i s2.1]) lc_X1_118 rfl (kX1_breathe G s2.2 j s2.1) rfl rfl rfl rfl rfl rfl dX1_pass_22 (fun M9 => ?_)
      exact hm8 M9
def fX1_happen (M : am_M) (j : Nat) (a1 : Int32) (a2 : Int32) (a3 : Int32) : Option am_M :=
(if a1 = 0 then
(Option.bind (am_wr M (j + 2) 11 8 a2 a3) fun M2 =>
some M2)
 else
(if a1 = 1 then
(Option.bind (am_wr M (j + 2) 11 8 a2 (-6 : Int32)) fun M4 =>
some M4)
 else
(if a1 = 2 then
(Option.bind (am_wr M (j + 2) 10 8 a2 a3) fun M6 =>
some M6)
 else
(if a1 = 3 then
some (am_put M (j + 2) 4 ((M (j + 2) 4 0) ^^^ ((1 : Int32) <<< (a3 &&& 31))))
 else
(Option.bind (fX1_pass M j) fun M8 =>
some M8)))))
set_option maxHeartbeats 4000000 in
theorem kX1_happen (G : am_G) (M : am_M) (j : Nat) (a1 : Int32) (a2 : Int32) (a3 : Int32) : am_C G 9 mX1_happen [am_r (j + 2) 0, am_i a1, am_i a2, am_i a3] M (fun r => (none, r)) (fX1_happen M j a1 a2 a3) := by
  refine am_met (nL := 4) (ls0 := [some (am_r (j + 2) 0), some (am_i a1), some (am_i a2), some (am_i a3)]) (by decide) rfl (Nat.le_of_ble_eq_true rfl) (And.intro rfl (And.intro rfl (And.intro rfl (And.intro rfl trivial)))) ?_
  unfold fX1_happen
  refine am_iload_n dX1_happen_0 rfl rfl ?_
  refine am_ite (fun h1 => ?_) (fun h1 => ?_)
  · refine am_swI (tgt := 32) 0 h1 dX1_happen_1 (by decide) (by decide) rfl rfl ?_
    refine am_aload_n dX1_happen_32 rfl rfl ?_
    refine am_getA lf_X1_36 rfl rfl dX1_happen_33 ?_
    refine am_iload_n dX1_happen_36 rfl rfl ?_
    refine am_iload_n dX1_happen_37 rfl rfl ?_
    refine am_iast rfl dX1_happen_38 (fun M2 => ?_)
    refine am_goto (tgt := 82) dX1_happen_39 rfl ?_
    exact am_vret dX1_happen_82 rfl rfl
  refine am_ite (fun h3 => ?_) (fun h3 => ?_)
  · refine am_swI (tgt := 42) 1 h3 dX1_happen_1 (by decide) (by decide) rfl rfl ?_
    refine am_aload_n dX1_happen_42 rfl rfl ?_
    refine am_getA lf_X1_36 rfl rfl dX1_happen_43 ?_
    refine am_iload_n dX1_happen_46 rfl rfl ?_
    refine am_bipush dX1_happen_47 bp_m6 ?_
    refine am_iast rfl dX1_happen_49 (fun M4 => ?_)
    refine am_goto (tgt := 82) dX1_happen_50 rfl ?_
    exact am_vret dX1_happen_82 rfl rfl
  refine am_ite (fun h5 => ?_) (fun h5 => ?_)
  · refine am_swI (tgt := 53) 2 h5 dX1_happen_1 (by decide) (by decide) rfl rfl ?_
    refine am_aload_n dX1_happen_53 rfl rfl ?_
    refine am_getA lf_X1_33 rfl rfl dX1_happen_54 ?_
    refine am_iload_n dX1_happen_57 rfl rfl ?_
    refine am_iload_n dX1_happen_58 rfl rfl ?_
    refine am_iast rfl dX1_happen_59 (fun M6 => ?_)
    refine am_goto (tgt := 82) dX1_happen_60 rfl ?_
    exact am_vret dX1_happen_82 rfl rfl
  refine am_ite (fun h7 => ?_) (fun h7 => ?_)
  · refine am_swI (tgt := 63) 3 h7 dX1_happen_1 (by decide) (by decide) rfl rfl ?_
    refine am_aload_n dX1_happen_63 rfl rfl ?_
    refine am_dup dX1_happen_64 rfl ?_
    refine am_get lf_X1_60 rfl rfl dX1_happen_65 ?_
    refine am_iconst dX1_happen_68 ic_1 ?_
    refine am_iload_n dX1_happen_69 rfl rfl ?_
    refine am_ishl dX1_happen_70 ?_
    refine am_ixor dX1_happen_71 ?_
    refine am_putf lf_X1_60 rfl rfl dX1_happen_72 ?_
    refine am_goto (tgt := 82) dX1_happen_75 rfl ?_
    exact am_vret dX1_happen_82 rfl rfl
  refine am_swO (tgt := 78) dX1_happen_1 (by have h1 := lv_neT (a := 0) h1 (by decide); have h3 := lv_neT (a := 1) h3 (by decide); have h5 := lv_neT (a := 2) h5 (by decide); have h7 := lv_neT (a := 3) h7 (by decide); omega) rfl ?_
  refine am_aload_n dX1_happen_78 rfl rfl ?_
  refine am_cVU (as' := []) lc_X1_122 rfl (kX1_pass G M j) rfl rfl rfl rfl rfl rfl dX1_happen_79 (fun M8 => ?_)
  exact am_vret dX1_happen_82 rfl rfl
def fJ0_numberOfTrailingZeros (a0 : Int32) : Option Int32 :=
(Option.bind (some ((a0 ^^^ (-1 : Int32)) &&& (a0 - (1 : Int32)))) fun v1 =>
(if 0 < v1 then
(Option.bind (if v1 ≤ (65536 : Int32) then
some (v1, (1 : Int32))
 else
some ((jv_ushr v1 (16 : Int32)), ((1 : Int32) + 16))) fun (x2 : (Int32 × Int32)) =>
(Option.bind (if x2.1 ≤ (256 : Int32) then
some (x2.1, x2.2)
 else
some ((jv_ushr x2.1 (8 : Int32)), (x2.2 + 8))) fun (x4 : (Int32 × Int32)) =>
(Option.bind (if x4.1 ≤ (16 : Int32) then
some (x4.1, x4.2)
 else
some ((jv_ushr x4.1 (4 : Int32)), (x4.2 + 4))) fun (x6 : (Int32 × Int32)) =>
(Option.bind (if x6.1 ≤ (4 : Int32) then
some (x6.1, x6.2)
 else
some ((jv_ushr x6.1 (2 : Int32)), (x6.2 + 2))) fun (x8 : (Int32 × Int32)) =>
some (x8.2 + (jv_ushr x8.1 (1 : Int32)))))))
 else
some (v1 &&& (32 : Int32))))
set_option maxHeartbeats 4000000 in
theorem kJ0_numberOfTrailingZeros (G : am_G) (M : am_M) (a0 : Int32) : am_C G 1 mJ0_numberOfTrailingZeros [am_i a0] M (fun r => (some (am_i r), M)) (fJ0_numberOfTrailingZeros a0) := by
  refine am_met (nL := 2) (ls0 := [some (am_i a0), none]) (by decide) rfl (Nat.le_of_ble_eq_true rfl) (And.intro rfl trivial) ?_
  unfold fJ0_numberOfTrailingZeros
  refine am_iload_n dJ0_numberOfTrailingZeros_0 rfl rfl ?_
  refine am_iconst dJ0_numberOfTrailingZeros_1 ic_m1 ?_
  refine am_ixor dJ0_numberOfTrailingZeros_2 ?_
  refine am_iload_n dJ0_numberOfTrailingZeros_3 rfl rfl ?_
  refine am_iconst dJ0_numberOfTrailingZeros_4 ic_1 ?_
  refine am_isub dJ0_numberOfTrailingZeros_5 ?_
  refine am_iand dJ0_numberOfTrailingZeros_6 ?_
  refine am_name (fun v1 => ?_)
  refine am_istore_n [some (am_i v1), none] dJ0_numberOfTrailingZeros_7 rfl rfl (Nat.le_of_ble_eq_true rfl) rfl ?_
  refine am_iload_n dJ0_numberOfTrailingZeros_8 rfl rfl ?_
  refine am_if_gt (tgt := 17) dJ0_numberOfTrailingZeros_9 rfl ?_ ?_
  · refine am_iconst dJ0_numberOfTrailingZeros_17 ic_1 ?_
    refine am_istore_n [some (am_i v1), some (am_i (1 : Int32))] dJ0_numberOfTrailingZeros_18 rfl rfl (Nat.le_of_ble_eq_true rfl) rfl ?_
    refine am_iload_n dJ0_numberOfTrailingZeros_19 rfl rfl ?_
    refine am_ldcw dJ0_numberOfTrailingZeros_20 q375 ?_
    refine am_join (β := (Int32 × Int32)) 34 (fun x2 => [some (am_i x2.1), some (am_i x2.2)]) (fun x2 => []) (fun x2 => M) (fun x2 => ?_) (fun hm3 => ?_)
    · refine am_iload_n dJ0_numberOfTrailingZeros_34 rfl rfl ?_
      refine am_sipush dJ0_numberOfTrailingZeros_35 sp_256 ?_
      refine am_join (β := (Int32 × Int32)) 49 (fun x4 => [some (am_i x4.1), some (am_i x4.2)]) (fun x4 => []) (fun x4 => M) (fun x4 => ?_) (fun hm5 => ?_)
      · refine am_iload_n dJ0_numberOfTrailingZeros_49 rfl rfl ?_
        refine am_bipush dJ0_numberOfTrailingZeros_50 bp_16 ?_
        refine am_join (β := (Int32 × Int32)) 62 (fun x6 => [some (am_i x6.1), some (am_i x6.2)]) (fun x6 => []) (fun x6 => M) (fun x6 => ?_) (fun hm7 => ?_)
        · refine am_iload_n dJ0_numberOfTrailingZeros_62 rfl rfl ?_
          refine am_iconst dJ0_numberOfTrailingZeros_63 ic_4 ?_
          refine am_join (β := (Int32 × Int32)) 74 (fun x8 => [some (am_i x8.1), some (am_i x8.2)]) (fun x8 => []) (fun x8 => M) (fun x8 => ?_) (fun hm9 => ?_)
          · refine am_iload_n dJ0_numberOfTrailingZeros_74 rfl rfl ?_
            refine am_iload_n dJ0_numberOfTrailingZeros_75 rfl rfl ?_
            refine am_iconst dJ0_numberOfTrailingZeros_76 ic_1 ?_
            refine am_iushr dJ0_numberOfTrailingZeros_77 ?_
            refine am_iadd dJ0_numberOfTrailingZeros_78 ?_
            exact am_iret dJ0_numberOfTrailingZeros_79 rfl rfl
          refine am_icmp_leB (tgt := 74) dJ0_numberOfTrailingZeros_64 rfl ?_ ?_
          · exact hm9 (x6.1, x6.2)
          · refine am_iinc [some (am_i x6.1), some (am_i (x6.2 + 2))] dJ0_numberOfTrailingZeros_67 rfl ic_2 rfl (Nat.le_of_ble_eq_true rfl) rfl ?_
            refine am_iload_n dJ0_numberOfTrailingZeros_70 rfl rfl ?_
            refine am_iconst dJ0_numberOfTrailingZeros_71 ic_2 ?_
            refine am_iushr dJ0_numberOfTrailingZeros_72 ?_
            refine am_istore_n [some (am_i (jv_ushr x6.1 (2 : Int32))), some (am_i (x6.2 + 2))] dJ0_numberOfTrailingZeros_73 rfl rfl (Nat.le_of_ble_eq_true rfl) rfl ?_
            exact hm9 ((jv_ushr x6.1 (2 : Int32)), (x6.2 + 2))
        refine am_icmp_leB (tgt := 62) dJ0_numberOfTrailingZeros_52 rfl ?_ ?_
        · exact hm7 (x4.1, x4.2)
        · refine am_iinc [some (am_i x4.1), some (am_i (x4.2 + 4))] dJ0_numberOfTrailingZeros_55 rfl ic_4 rfl (Nat.le_of_ble_eq_true rfl) rfl ?_
          refine am_iload_n dJ0_numberOfTrailingZeros_58 rfl rfl ?_
          refine am_iconst dJ0_numberOfTrailingZeros_59 ic_4 ?_
          refine am_iushr dJ0_numberOfTrailingZeros_60 ?_
          refine am_istore_n [some (am_i (jv_ushr x4.1 (4 : Int32))), some (am_i (x4.2 + 4))] dJ0_numberOfTrailingZeros_61 rfl rfl (Nat.le_of_ble_eq_true rfl) rfl ?_
          exact hm7 ((jv_ushr x4.1 (4 : Int32)), (x4.2 + 4))
      refine am_icmp_leB (tgt := 49) dJ0_numberOfTrailingZeros_38 rfl ?_ ?_
      · exact hm5 (x2.1, x2.2)
      · refine am_iinc [some (am_i x2.1), some (am_i (x2.2 + 8))] dJ0_numberOfTrailingZeros_41 rfl ic_8 rfl (Nat.le_of_ble_eq_true rfl) rfl ?_
        refine am_iload_n dJ0_numberOfTrailingZeros_44 rfl rfl ?_
        refine am_bipush dJ0_numberOfTrailingZeros_45 bp_8 ?_
        refine am_iushr dJ0_numberOfTrailingZeros_47 ?_
        refine am_istore_n [some (am_i (jv_ushr x2.1 (8 : Int32))), some (am_i (x2.2 + 8))] dJ0_numberOfTrailingZeros_48 rfl rfl (Nat.le_of_ble_eq_true rfl) rfl ?_
        exact hm5 ((jv_ushr x2.1 (8 : Int32)), (x2.2 + 8))
    refine am_icmp_leB (tgt := 34) dJ0_numberOfTrailingZeros_23 rfl ?_ ?_
    · exact hm3 (v1, (1 : Int32))
    · refine am_iinc [some (am_i v1), some (am_i ((1 : Int32) + 16))] dJ0_numberOfTrailingZeros_26 rfl ic_16 rfl (Nat.le_of_ble_eq_true rfl) rfl ?_
      refine am_iload_n dJ0_numberOfTrailingZeros_29 rfl rfl ?_
      refine am_bipush dJ0_numberOfTrailingZeros_30 bp_16 ?_
      refine am_iushr dJ0_numberOfTrailingZeros_32 ?_
      refine am_istore_n [some (am_i (jv_ushr v1 (16 : Int32))), some (am_i ((1 : Int32) + 16))] dJ0_numberOfTrailingZeros_33 rfl rfl (Nat.le_of_ble_eq_true rfl) rfl ?_
      exact hm3 ((jv_ushr v1 (16 : Int32)), ((1 : Int32) + 16))
  · refine am_iload_n dJ0_numberOfTrailingZeros_12 rfl rfl ?_
    refine am_bipush dJ0_numberOfTrailingZeros_13 bp_32 ?_
    refine am_iand dJ0_numberOfTrailingZeros_15 ?_
    exact am_iret dJ0_numberOfTrailingZeros_16 rfl rfl
def fX0_go_L31  (rec1 : (Int32 × am_M) → Option ((Int32 × am_M) ⊕ (Int32 × am_M))) (s2 : (Int32 × am_M)) : Option ((Int32 × am_M) ⊕ (Int32 × am_M)) :=
(if ((s2.2) 0 8 0) ≤ s2.1 then
some (.inr (s2.1, s2.2))
 else
(Option.bind (am_rd ((s2.2) 0 5) 60 s2.1) fun v3 =>
(Option.bind (am_rd ((s2.2) 0 6) 60 s2.1) fun v4 =>
(Option.bind (am_rd ((s2.2) 0 7) 60 s2.1) fun v5 =>
(Option.bind (fX1_whyNot ((s2.2) 3) v3 v4 v5) fun v6 =>
(if v6 ≤ 0 then
(Option.bind (fX1_lamps ((s2.2) 3)) fun v7 =>
(Option.bind (am_rd ((s2.2) 0 5) 60 s2.1) fun v8 =>
(Option.bind (am_rd ((s2.2) 0 6) 60 s2.1) fun v9 =>
(Option.bind (am_rd ((s2.2) 0 7) 60 s2.1) fun v10 =>
(Option.bind (fX1_happen s2.2 1 v8 v9 v10) fun M11 =>
(Option.bind (fX1_lamps (M11 3)) fun v12 =>
(Option.bind (if (v7 &&& (v12 ^^^ (-1 : Int32))) = 0 then
some M11
 else
(if 0 ≤ (M11 0 11 0) then
some M11
 else
(Option.bind (fJ0_numberOfTrailingZeros (v7 &&& (v12 ^^^ (-1 : Int32)))) fun v13 =>
some (am_put (am_put M11 0 11 s2.1) 0 12 v13)))) fun (x14 : am_M) =>
rec1 ((s2.1 + 1), x14))))))))
 else
some (.inl (s2.1, (am_put s2.2 0 10 v6)))))))))
def fX0_go (M : am_M) : Option (Int32 × am_M) :=
(Option.bind (fX1_take M 1 0) fun M1 =>
(Option.bind (am_it fX0_go_L31 am_fuel ((0 : Int32), (am_put (am_put (am_put M1 0 10 (-6 : Int32)) 0 11 (-6 : Int32)) 0 12 (-6 : Int32)))) (Sum.elim some fun (s6 : (Int32 × am_M)) =>
some ((-6 : Int32), s6.2))))
set_option maxHeartbeats 4000000 in
theorem kX0_go (G : am_G) (M : am_M)  : am_C G 10 mX0_go [am_r 0 0] M (fun r => (some (am_i r.1), r.2)) (fX0_go M) := by
  refine am_met (nL := 5) (ls0 := [some (am_r 0 0), none, none, none, none]) (by decide) rfl (Nat.le_of_ble_eq_true rfl) (And.intro rfl trivial) ?_
  unfold fX0_go
  refine am_aload_n dX0_go_0 rfl rfl ?_
  refine am_getO (o2 := 3) lf_X0_42 rfl (by decide) dX0_go_1 ?_
  refine am_aload_n dX0_go_4 rfl rfl ?_
  refine am_getO (o2 := 2) lf_X0_38 rfl (by decide) dX0_go_5 ?_
  refine am_cVU (as' := [am_r 2 0]) lc_X0_163 rfl (kX1_take G M 1 0) rfl rfl rfl rfl rfl rfl dX0_go_8 (fun M1 => ?_)
  refine am_aload_n dX0_go_11 rfl rfl ?_
  refine am_bipush dX0_go_12 bp_m6 ?_
  refine am_putf lf_X0_167 rfl rfl dX0_go_14 ?_
  refine am_aload_n dX0_go_17 rfl rfl ?_
  refine am_bipush dX0_go_18 bp_m6 ?_
  refine am_putf lf_X0_170 rfl rfl dX0_go_20 ?_
  refine am_aload_n dX0_go_23 rfl rfl ?_
  refine am_bipush dX0_go_24 bp_m6 ?_
  refine am_putf lf_X0_173 rfl rfl dX0_go_26 ?_
  refine am_iconst dX0_go_29 ic_0 ?_
  refine am_istore_n [some (am_r 0 0), some (am_i (0 : Int32)), none, none, none] dX0_go_30 rfl rfl (Nat.le_of_ble_eq_true rfl) rfl ?_
  refine am_joinR (S := (Int32 × am_M)) 154 (fun s6 => [none, none, none, none, none]) (fun _ => []) (fun s6 => s6.2) (fun s6 => ?_) (fun hx5 => ?_)
  · refine am_bipush dX0_go_154 bp_m6 ?_
    exact am_iret dX0_go_156 rfl rfl
  refine am_loop (σ := (Int32 × am_M)) (ls' := fun s2 => [some (am_r 0 0), some (am_i s2.1), none, none, none]) (st' := fun _ => []) (M' := fun s2 => s2.2) (fun rec3 hr4 s2 => ?_) _ _
  unfold fX0_go_L31
  refine am_iload_n dX0_go_31 rfl rfl ?_
  refine am_aload_n dX0_go_32 rfl rfl ?_
  refine am_get lf_X0_143 rfl rfl dX0_go_33 ?_
  refine am_icmp_geB (tgt := 154) dX0_go_36 rfl ?_ ?_
  · exact am_dr (hx5 (s2.1, s2.2)) trivial
  · refine am_aload_n dX0_go_39 rfl rfl ?_
    refine am_getO (o2 := 3) lf_X0_42 rfl (by decide) dX0_go_40 ?_
    refine am_aload_n dX0_go_43 rfl rfl ?_
    refine am_getA lf_X0_53 rfl rfl dX0_go_44 ?_
    refine am_iload_n dX0_go_47 rfl rfl ?_
    refine am_as ?_
    refine am_iald (β := Unit) rfl dX0_go_48 (fun v7 => ?_)
    refine am_aload_n dX0_go_49 rfl rfl ?_
    refine am_getA lf_X0_57 rfl rfl dX0_go_50 ?_
    refine am_iload_n dX0_go_53 rfl rfl ?_
    refine am_as ?_
    refine am_iald (β := Unit) rfl dX0_go_54 (fun v8 => ?_)
    refine am_aload_n dX0_go_55 rfl rfl ?_
    refine am_getA lf_X0_60 rfl rfl dX0_go_56 ?_
    refine am_iload_n dX0_go_59 rfl rfl ?_
    refine am_as ?_
    refine am_iald (β := Unit) rfl dX0_go_60 (fun v9 => ?_)
    refine am_as ?_
    refine am_cVI (as' := [am_i v7, am_i v8, am_i v9]) lc_X0_176 rfl (kX1_whyNot G s2.2 1 v7 v8 v9) rfl rfl rfl rfl rfl rfl dX0_go_61 (fun v10 => ?_)
    refine am_istore_n [some (am_r 0 0), some (am_i s2.1), some (am_i v10), none, none] dX0_go_64 rfl rfl (Nat.le_of_ble_eq_true rfl) rfl ?_
    refine am_iload_n dX0_go_65 rfl rfl ?_
    refine am_if_leB (tgt := 76) dX0_go_66 rfl ?_ ?_
    · refine am_aload_n dX0_go_76 rfl rfl ?_
      refine am_getO (o2 := 3) lf_X0_42 rfl (by decide) dX0_go_77 ?_
      refine am_as ?_
      refine am_cVI (as' := []) lc_X0_180 rfl (kX1_lamps G s2.2 1) rfl rfl rfl rfl rfl rfl dX0_go_80 (fun v11 => ?_)
      refine am_istore_n [some (am_r 0 0), some (am_i s2.1), some (am_i v10), some (am_i v11), none] dX0_go_83 rfl rfl (Nat.le_of_ble_eq_true rfl) rfl ?_
      refine am_aload_n dX0_go_84 rfl rfl ?_
      refine am_getO (o2 := 3) lf_X0_42 rfl (by decide) dX0_go_85 ?_
      refine am_aload_n dX0_go_88 rfl rfl ?_
      refine am_getA lf_X0_53 rfl rfl dX0_go_89 ?_
      refine am_iload_n dX0_go_92 rfl rfl ?_
      refine am_as ?_
      refine am_iald (β := Unit) rfl dX0_go_93 (fun v12 => ?_)
      refine am_aload_n dX0_go_94 rfl rfl ?_
      refine am_getA lf_X0_57 rfl rfl dX0_go_95 ?_
      refine am_iload_n dX0_go_98 rfl rfl ?_
      refine am_as ?_
      refine am_iald (β := Unit) rfl dX0_go_99 (fun v13 => ?_)
      refine am_aload_n dX0_go_100 rfl rfl ?_
      refine am_getA lf_X0_60 rfl rfl dX0_go_101 ?_
      refine am_iload_n dX0_go_104 rfl rfl ?_
      refine am_as ?_
      refine am_iald (β := Unit) rfl dX0_go_105 (fun v14 => ?_)
      refine am_as ?_
      refine am_cVU (as' := [am_i v12, am_i v13, am_i v14]) lc_X0_184 rfl (kX1_happen G s2.2 1 v12 v13 v14) rfl rfl rfl rfl rfl rfl dX0_go_106 (fun M15 => ?_)
      refine am_iload_n dX0_go_109 rfl rfl ?_
      refine am_aload_n dX0_go_110 rfl rfl ?_
      refine am_getO (o2 := 3) lf_X0_42 rfl (by decide) dX0_go_111 ?_
      refine am_as ?_
      refine am_cVI (as' := []) lc_X0_180 rfl (kX1_lamps G M15 1) rfl rfl rfl rfl rfl rfl dX0_go_114 (fun v16 => ?_)
      refine am_iconst dX0_go_117 ic_m1 ?_
      refine am_ixor dX0_go_118 ?_
      refine am_iand dX0_go_119 ?_
      refine am_istore [some (am_r 0 0), some (am_i s2.1), some (am_i v10), some (am_i v11), some (am_i (v11 &&& (v16 ^^^ (-1 : Int32))))] dX0_go_120 rfl (Nat.le_of_ble_eq_true rfl) rfl ?_
      refine am_iload dX0_go_122 rfl ?_
      refine am_as ?_
      refine am_join (β := am_M) 148 (fun x17 => [some (am_r 0 0), some (am_i s2.1), some (am_i v10), some (am_i v11), some (am_i (v11 &&& (v16 ^^^ (-1 : Int32))))]) (fun x17 => []) (fun x17 => x17) (fun x17 => ?_) (fun hm18 => ?_)
      · refine am_iinc [some (am_r 0 0), some (am_i (s2.1 + 1)), some (am_i v10), some (am_i v11), some (am_i (v11 &&& (v16 ^^^ (-1 : Int32))))] dX0_go_148 rfl ic_1 rfl (Nat.le_of_ble_eq_true rfl) rfl ?_
        refine am_goto (tgt := 31) dX0_go_151 rfl ?_
        exact am_dr (hr4 ((s2.1 + 1), x17)) (And.intro rfl (And.intro rfl trivial))
      refine am_if_eqB (tgt := 148) dX0_go_124 rfl ?_ ?_
      · exact hm18 M15
      · refine am_aload_n dX0_go_127 rfl rfl ?_
        refine am_get lf_X0_170 rfl rfl dX0_go_128 ?_
        refine am_if_geB (tgt := 148) dX0_go_131 rfl ?_ ?_
        · exact hm18 M15
        · refine am_aload_n dX0_go_134 rfl rfl ?_
          refine am_iload_n dX0_go_135 rfl rfl ?_
          refine am_putf lf_X0_170 rfl rfl dX0_go_136 ?_
          refine am_aload_n dX0_go_139 rfl rfl ?_
          refine am_iload dX0_go_140 rfl ?_
          refine am_as ?_
          refine am_cSI lc_X0_188 (kJ0_numberOfTrailingZeros G (am_put M15 0 11 s2.1) (v11 &&& (v16 ^^^ (-1 : Int32)))) rfl rfl rfl rfl rfl dX0_go_142 (fun v19 => ?_)
          refine am_putf lf_X0_173 rfl rfl dX0_go_145 ?_
          exact hm18 (am_put (am_put M15 0 11 s2.1) 0 12 v19)
    · refine am_aload_n dX0_go_69 rfl rfl ?_
      refine am_iload_n dX0_go_70 rfl rfl ?_
      refine am_putf lf_X0_167 rfl rfl dX0_go_71 ?_
      refine am_iload_n dX0_go_74 rfl rfl ?_
      show am_R _ _ _ _ _ _ _ _ (some (s2.1, (am_put s2.2 0 10 v10)))
      exact am_iret dX0_go_75 rfl rfl
def fX0_judge (M : am_M) (a1 : Int32) : Option (Int32 × am_M) :=
(if (fX0_isEnd a1) = 0 then
some ((-2 : Int32), M)
 else
(Option.bind (fX0_fault M) fun r1 =>
(if r1.1 < 0 then
(Option.bind (fX0_go r1.2) fun r2 =>
(if a1 = 0 then
some (r2.1, r2.2)
 else
some (((r2.2) 0 10 0), r2.2)))
 else
some ((-5 : Int32), r1.2))))
set_option maxHeartbeats 4000000 in
theorem kX0_judge (G : am_G) (M : am_M) (a1 : Int32) : am_C G 11 mX0_judge [am_r 0 0, am_i a1] M (fun r => (some (am_i r.1), r.2)) (fX0_judge M a1) := by
  refine am_met (nL := 3) (ls0 := [some (am_r 0 0), some (am_i a1), none]) (by decide) rfl (Nat.le_of_ble_eq_true rfl) (And.intro rfl (And.intro rfl trivial)) ?_
  unfold fX0_judge
  refine am_iload_n dX0_judge_0 rfl rfl ?_
  refine am_cST lc_X0_197 (kX0_isEnd G M a1) rfl rfl rfl rfl rfl dX0_judge_1 ?_
  refine am_if_ne (tgt := 10) dX0_judge_4 rfl ?_ ?_
  · refine am_bipush dX0_judge_7 bp_m2 ?_
    exact am_iret dX0_judge_9 rfl rfl
  · refine am_aload_n dX0_judge_10 rfl rfl ?_
    refine am_cVX (as' := []) lc_X0_191 rfl (kX0_fault G M) rfl rfl rfl rfl rfl rfl dX0_judge_11 (fun r1 => ?_)
    refine am_if_lt (tgt := 20) dX0_judge_14 rfl ?_ ?_
    · refine am_aload_n dX0_judge_20 rfl rfl ?_
      refine am_cVX (as' := []) lc_X0_194 rfl (kX0_go G r1.2) rfl rfl rfl rfl rfl rfl dX0_judge_21 (fun r2 => ?_)
      refine am_istore_n [some (am_r 0 0), some (am_i a1), some (am_i r2.1)] dX0_judge_24 rfl rfl (Nat.le_of_ble_eq_true rfl) rfl ?_
      refine am_iload_n dX0_judge_25 rfl rfl ?_
      refine am_if_ne (tgt := 33) dX0_judge_26 rfl ?_ ?_
      · refine am_iload_n dX0_judge_29 rfl rfl ?_
        refine am_goto (tgt := 37) dX0_judge_30 rfl ?_
        exact am_iret dX0_judge_37 rfl rfl
      · refine am_aload_n dX0_judge_33 rfl rfl ?_
        refine am_get lf_X0_167 rfl rfl dX0_judge_34 ?_
        exact am_iret dX0_judge_37 rfl rfl
    · refine am_bipush dX0_judge_17 bp_m5 ?_
      exact am_iret dX0_judge_19 rfl rfl
def fX0_isRefused (M : am_M) : Option (Int32 × am_M) :=
(Option.bind (fX0_fault M) fun r1 =>
(if 0 ≤ r1.1 then
some ((1 : Int32), r1.2)
 else
(Option.bind (fX0_go r1.2) fun r2 =>
(if r2.1 < 0 then
some ((0 : Int32), r2.2)
 else
some ((1 : Int32), r2.2)))))
set_option maxHeartbeats 4000000 in
theorem kX0_isRefused (G : am_G) (M : am_M)  : am_C G 11 mX0_isRefused [am_r 0 0] M (fun r => (some (am_i r.1), r.2)) (fX0_isRefused M) := by
  refine am_met (nL := 1) (ls0 := [some (am_r 0 0)]) (by decide) rfl (Nat.le_of_ble_eq_true rfl) (And.intro rfl trivial) ?_
  unfold fX0_isRefused
  refine am_aload_n dX0_isRefused_0 rfl rfl ?_
  refine am_cVX (as' := []) lc_X0_191 rfl (kX0_fault G M) rfl rfl rfl rfl rfl rfl dX0_isRefused_1 (fun r1 => ?_)
  refine am_if_ge (tgt := 14) dX0_isRefused_4 rfl ?_ ?_
  · refine am_iconst dX0_isRefused_14 ic_1 ?_
    refine am_goto (tgt := 19) dX0_isRefused_15 rfl ?_
    exact am_zret (by decide) dX0_isRefused_19 rfl rfl
  · refine am_aload_n dX0_isRefused_7 rfl rfl ?_
    refine am_cVX (as' := []) lc_X0_194 rfl (kX0_go G r1.2) rfl rfl rfl rfl rfl rfl dX0_isRefused_8 (fun r2 => ?_)
    refine am_if_lt (tgt := 18) dX0_isRefused_11 rfl ?_ ?_
    · refine am_iconst dX0_isRefused_18 ic_0 ?_
      exact am_zret (by decide) dX0_isRefused_19 rfl rfl
    · refine am_iconst dX0_isRefused_14 ic_1 ?_
      refine am_goto (tgt := 19) dX0_isRefused_15 rfl ?_
      exact am_zret (by decide) dX0_isRefused_19 rfl rfl
def fX0_done (M : am_M) : Option (Int32 × am_M) :=
(Option.bind (fX0_isRefused M) fun r1 =>
(if r1.1 = 0 then
(Option.bind (fX1_take r1.2 0 1) fun M2 =>
some (((am_put M2 0 4 (0 : Int32)) 0 8 0), (am_put M2 0 4 (0 : Int32))))
 else
some ((-5 : Int32), r1.2)))
set_option maxHeartbeats 4000000 in
theorem kX0_done (G : am_G) (M : am_M)  : am_C G 12 mX0_done [am_r 0 0] M (fun r => (some (am_i r.1), r.2)) (fX0_done M) := by
  refine am_met (nL := 1) (ls0 := [some (am_r 0 0)]) (by decide) rfl (Nat.le_of_ble_eq_true rfl) (And.intro rfl trivial) ?_
  unfold fX0_done
  refine am_aload_n dX0_done_0 rfl rfl ?_
  refine am_cVX (as' := []) lc_X0_200 rfl (kX0_isRefused G M) rfl rfl rfl rfl rfl rfl dX0_done_1 (fun r1 => ?_)
  refine am_if_eq (tgt := 10) dX0_done_4 rfl ?_ ?_
  · refine am_aload_n dX0_done_10 rfl rfl ?_
    refine am_getO (o2 := 2) lf_X0_38 rfl (by decide) dX0_done_11 ?_
    refine am_aload_n dX0_done_14 rfl rfl ?_
    refine am_getO (o2 := 3) lf_X0_42 rfl (by decide) dX0_done_15 ?_
    refine am_cVU (as' := [am_r 3 0]) lc_X0_163 rfl (kX1_take G r1.2 0 1) rfl rfl rfl rfl rfl rfl dX0_done_18 (fun M2 => ?_)
    refine am_aload_n dX0_done_21 rfl rfl ?_
    refine am_iconst dX0_done_22 ic_0 ?_
    refine am_putf lf_X0_140 rfl rfl dX0_done_23 ?_
    refine am_aload_n dX0_done_26 rfl rfl ?_
    refine am_get lf_X0_143 rfl rfl dX0_done_27 ?_
    exact am_iret dX0_done_30 rfl rfl
  · refine am_bipush dX0_done_7 bp_m5 ?_
    exact am_iret dX0_done_9 rfl rfl
def fX0_behind (M : am_M) (a1 : Int32) (a2 : Int32) : Option (Int32 × am_M) :=
(if (fX0_isHere M a1) = 0 then
some ((-1 : Int32), M)
 else
(if (fX0_isIn ((a2).toInt64) (0 : Int64) (2 : Int64)) = 0 then
some ((-2 : Int32), M)
 else
(Option.bind (fX0_isRefused M) fun r1 =>
(if r1.1 = 0 then
(if a2 = 0 then
(Option.bind (am_rd ((r1.2) 3 11) 8 a1) fun v2 =>
some (v2, r1.2))
 else
(if a2 = (1 : Int32) then
(Option.bind (am_rd ((r1.2) 3 9) 8 a1) fun v3 =>
some (v3, r1.2))
 else
(Option.bind (am_rd ((r1.2) 3 10) 8 a1) fun v4 =>
some (v4, r1.2))))
 else
some ((-5 : Int32), r1.2)))))
set_option maxHeartbeats 4000000 in
theorem kX0_behind (G : am_G) (M : am_M) (a1 : Int32) (a2 : Int32) : am_C G 12 mX0_behind [am_r 0 0, am_i a1, am_i a2] M (fun r => (some (am_i r.1), r.2)) (fX0_behind M a1 a2) := by
  refine am_met (nL := 3) (ls0 := [some (am_r 0 0), some (am_i a1), some (am_i a2)]) (by decide) rfl (Nat.le_of_ble_eq_true rfl) (And.intro rfl (And.intro rfl (And.intro rfl trivial))) ?_
  unfold fX0_behind
  refine am_aload_n dX0_behind_0 rfl rfl ?_
  refine am_iload_n dX0_behind_1 rfl rfl ?_
  refine am_cVT (as' := [am_i a1]) lc_X0_133 rfl (kX0_isHere G M a1) rfl rfl rfl rfl rfl rfl dX0_behind_2 ?_
  refine am_if_ne (tgt := 10) dX0_behind_5 rfl ?_ ?_
  · refine am_iconst dX0_behind_8 ic_m1 ?_
    exact am_iret dX0_behind_9 rfl rfl
  · refine am_iload_n dX0_behind_10 rfl rfl ?_
    refine am_i2l dX0_behind_11 ?_
    refine am_lconst (v := 0) dX0_behind_12 rfl ?_
    refine am_ldc2 dX0_behind_13 q388 ?_
    refine am_cST lc_X0_3 (kX0_isIn G M ((a2).toInt64) (0 : Int64) (2 : Int64)) rfl rfl rfl rfl rfl dX0_behind_16 ?_
    refine am_if_ne (tgt := 25) dX0_behind_19 rfl ?_ ?_
    · refine am_bipush dX0_behind_22 bp_m2 ?_
      exact am_iret dX0_behind_24 rfl rfl
    · refine am_aload_n dX0_behind_25 rfl rfl ?_
      refine am_cVX (as' := []) lc_X0_200 rfl (kX0_isRefused G M) rfl rfl rfl rfl rfl rfl dX0_behind_26 (fun r1 => ?_)
      refine am_if_eq (tgt := 35) dX0_behind_29 rfl ?_ ?_
      · refine am_iload_n dX0_behind_35 rfl rfl ?_
        refine am_if_ne (tgt := 51) dX0_behind_36 rfl ?_ ?_
        · refine am_aload_n dX0_behind_39 rfl rfl ?_
          refine am_getO (o2 := 3) lf_X0_42 rfl (by decide) dX0_behind_40 ?_
          refine am_getA lf_X0_130 rfl rfl dX0_behind_43 ?_
          refine am_iload_n dX0_behind_46 rfl rfl ?_
          refine am_iald (β := Unit) rfl dX0_behind_47 (fun v2 => ?_)
          refine am_goto (tgt := 77) dX0_behind_48 rfl ?_
          exact am_iret dX0_behind_77 rfl rfl
        · refine am_iload_n dX0_behind_51 rfl rfl ?_
          refine am_iconst dX0_behind_52 ic_1 ?_
          refine am_icmp_ne (tgt := 68) dX0_behind_53 rfl ?_ ?_
          · refine am_aload_n dX0_behind_56 rfl rfl ?_
            refine am_getO (o2 := 3) lf_X0_42 rfl (by decide) dX0_behind_57 ?_
            refine am_getA lf_X0_124 rfl rfl dX0_behind_60 ?_
            refine am_iload_n dX0_behind_63 rfl rfl ?_
            refine am_iald (β := Unit) rfl dX0_behind_64 (fun v3 => ?_)
            refine am_goto (tgt := 77) dX0_behind_65 rfl ?_
            exact am_iret dX0_behind_77 rfl rfl
          · refine am_aload_n dX0_behind_68 rfl rfl ?_
            refine am_getO (o2 := 3) lf_X0_42 rfl (by decide) dX0_behind_69 ?_
            refine am_getA lf_X0_127 rfl rfl dX0_behind_72 ?_
            refine am_iload_n dX0_behind_75 rfl rfl ?_
            refine am_iald (β := Unit) rfl dX0_behind_76 (fun v4 => ?_)
            exact am_iret dX0_behind_77 rfl rfl
      · refine am_bipush dX0_behind_32 bp_m5 ?_
        exact am_iret dX0_behind_34 rfl rfl
def fX0_seam (M : am_M) (a1 : Int32) (a2 : Int32) : Option (Int32 × am_M) :=
(if (fX0_isGallery a1) = 0 then
some ((-1 : Int32), M)
 else
(if (fX0_isEnd a2) = 0 then
some ((-2 : Int32), M)
 else
(Option.bind (fX0_isRefused M) fun r1 =>
(if r1.1 = 0 then
(if a2 = 0 then
(Option.bind (fX1_light ((r1.2) 3) a1) fun v2 =>
some (v2, r1.2))
 else
(Option.bind (am_rd ((r1.2) 3 2) 10 a1) fun v3 =>
some (v3, r1.2)))
 else
some ((-5 : Int32), r1.2)))))
set_option maxHeartbeats 4000000 in
theorem kX0_seam (G : am_G) (M : am_M) (a1 : Int32) (a2 : Int32) : am_C G 12 mX0_seam [am_r 0 0, am_i a1, am_i a2] M (fun r => (some (am_i r.1), r.2)) (fX0_seam M a1 a2) := by
  refine am_met (nL := 3) (ls0 := [some (am_r 0 0), some (am_i a1), some (am_i a2)]) (by decide) rfl (Nat.le_of_ble_eq_true rfl) (And.intro rfl (And.intro rfl (And.intro rfl trivial))) ?_
  unfold fX0_seam
  refine am_iload_n dX0_seam_0 rfl rfl ?_
  refine am_cST lc_X0_85 (kX0_isGallery G M a1) rfl rfl rfl rfl rfl dX0_seam_1 ?_
  refine am_if_ne (tgt := 9) dX0_seam_4 rfl ?_ ?_
  · refine am_iconst dX0_seam_7 ic_m1 ?_
    exact am_iret dX0_seam_8 rfl rfl
  · refine am_iload_n dX0_seam_9 rfl rfl ?_
    refine am_cST lc_X0_197 (kX0_isEnd G M a2) rfl rfl rfl rfl rfl dX0_seam_10 ?_
    refine am_if_ne (tgt := 19) dX0_seam_13 rfl ?_ ?_
    · refine am_bipush dX0_seam_16 bp_m2 ?_
      exact am_iret dX0_seam_18 rfl rfl
    · refine am_aload_n dX0_seam_19 rfl rfl ?_
      refine am_cVX (as' := []) lc_X0_200 rfl (kX0_isRefused G M) rfl rfl rfl rfl rfl rfl dX0_seam_20 (fun r1 => ?_)
      refine am_if_eq (tgt := 31) dX0_seam_23 rfl ?_ ?_
      · refine am_iload_n dX0_seam_31 rfl rfl ?_
        refine am_if_ne (tgt := 46) dX0_seam_32 rfl ?_ ?_
        · refine am_aload_n dX0_seam_35 rfl rfl ?_
          refine am_getO (o2 := 3) lf_X0_42 rfl (by decide) dX0_seam_36 ?_
          refine am_iload_n dX0_seam_39 rfl rfl ?_
          refine am_cVI (as' := [am_i a1]) lc_X0_206 rfl (kX1_light G r1.2 1 a1) rfl rfl rfl rfl rfl rfl dX0_seam_40 (fun v2 => ?_)
          refine am_goto (tgt := 55) dX0_seam_43 rfl ?_
          exact am_iret dX0_seam_55 rfl rfl
        · refine am_aload_n dX0_seam_46 rfl rfl ?_
          refine am_getO (o2 := 3) lf_X0_42 rfl (by decide) dX0_seam_47 ?_
          refine am_getA lf_X0_209 rfl rfl dX0_seam_50 ?_
          refine am_iload_n dX0_seam_53 rfl rfl ?_
          refine am_iald (β := Unit) rfl dX0_seam_54 (fun v3 => ?_)
          exact am_iret dX0_seam_55 rfl rfl
      · refine am_bipush dX0_seam_26 bp_m5 ?_
        refine am_goto (tgt := 55) dX0_seam_28 rfl ?_
        exact am_iret dX0_seam_55 rfl rfl
def fX1_coalInAll_L4 (m : Nat → Nat → Int32) (rec1 : (Int32 × Int32) → Option (Int32 × Int32)) (s2 : (Int32 × Int32)) : Option (Int32 × Int32) :=
(if (10 : Int32) ≤ s2.2 then
some (s2.1, s2.2)
 else
(Option.bind (am_rd (m 2) 10 s2.2) fun v3 =>
rec1 ((s2.1 + v3), (s2.2 + 1))))
def fX1_coalInAll (m : Nat → Nat → Int32) : Option Int32 :=
(Option.bind (am_it (fX1_coalInAll_L4 m) am_fuel ((0 : Int32), (0 : Int32))) fun (s5 : (Int32 × Int32)) =>
some s5.1)
set_option maxHeartbeats 4000000 in
theorem kX1_coalInAll (G : am_G) (M : am_M) (j : Nat)  : am_C G 1 mX1_coalInAll [am_r (j + 2) 0] M (fun r => (some (am_i r), M)) (fX1_coalInAll (M (j + 2))) := by
  refine am_met (nL := 3) (ls0 := [some (am_r (j + 2) 0), none, none]) (by decide) rfl (Nat.le_of_ble_eq_true rfl) (And.intro rfl trivial) ?_
  unfold fX1_coalInAll
  refine am_iconst dX1_coalInAll_0 ic_0 ?_
  refine am_istore_n [some (am_r (j + 2) 0), some (am_i (0 : Int32)), none] dX1_coalInAll_1 rfl rfl (Nat.le_of_ble_eq_true rfl) rfl ?_
  refine am_iconst dX1_coalInAll_2 ic_0 ?_
  refine am_istore_n [some (am_r (j + 2) 0), some (am_i (0 : Int32)), some (am_i (0 : Int32))] dX1_coalInAll_3 rfl rfl (Nat.le_of_ble_eq_true rfl) rfl ?_
  refine am_join (β := (Int32 × Int32)) 25 (fun s5 => [none, some (am_i s5.1), none]) (fun _ => []) (fun s5 => M) (fun s5 => ?_) (fun hx4 => ?_)
  · refine am_iload_n dX1_coalInAll_25 rfl rfl ?_
    exact am_iret dX1_coalInAll_26 rfl rfl
  refine am_loop (σ := (Int32 × Int32)) (ls' := fun s1 => [some (am_r (j + 2) 0), some (am_i s1.1), some (am_i s1.2)]) (st' := fun _ => []) (M' := fun s1 => M) (fun rec2 hr3 s1 => ?_) _ _
  unfold fX1_coalInAll_L4
  refine am_iload_n dX1_coalInAll_4 rfl rfl ?_
  refine am_bipush dX1_coalInAll_5 bp_10 ?_
  refine am_icmp_geB (tgt := 25) dX1_coalInAll_7 rfl ?_ ?_
  · exact am_dr (hx4 (s1.1, s1.2)) (And.intro rfl trivial)
  · refine am_iload_n dX1_coalInAll_10 rfl rfl ?_
    refine am_aload_n dX1_coalInAll_11 rfl rfl ?_
    refine am_getA lf_X1_18 rfl rfl dX1_coalInAll_12 ?_
    refine am_iload_n dX1_coalInAll_15 rfl rfl ?_
    refine am_as ?_
    refine am_iald (β := Unit) rfl dX1_coalInAll_16 (fun v6 => ?_)
    refine am_iadd dX1_coalInAll_17 ?_
    refine am_istore_n [some (am_r (j + 2) 0), some (am_i (s1.1 + v6)), some (am_i s1.2)] dX1_coalInAll_18 rfl rfl (Nat.le_of_ble_eq_true rfl) rfl ?_
    refine am_iinc [some (am_r (j + 2) 0), some (am_i (s1.1 + v6)), some (am_i (s1.2 + 1))] dX1_coalInAll_19 rfl ic_1 rfl (Nat.le_of_ble_eq_true rfl) rfl ?_
    refine am_goto (tgt := 4) dX1_coalInAll_22 rfl ?_
    exact hr3 ((s1.1 + v6), (s1.2 + 1))
def fX0_then (M : am_M) (a1 : Int32) : Option (Int32 × am_M) :=
(if (fX0_isIn ((a1).toInt64) (0 : Int64) (4 : Int64)) = 0 then
some ((-2 : Int32), M)
 else
(Option.bind (fX0_isRefused M) fun r1 =>
(if r1.1 = 0 then
(if a1 = 0 then
(Option.bind (fX1_lamps ((r1.2) 3)) fun v3 =>
some (v3, r1.2))
 else
(if a1 = 1 then
some (((r1.2) 3 12 0), r1.2)
 else
(if a1 = 2 then
(Option.bind (fX1_coalInAll ((r1.2) 3)) fun v6 =>
some (v6, r1.2))
 else
(if a1 = 3 then
some (((r1.2) 0 11 0), r1.2)
 else
some (((r1.2) 0 12 0), r1.2)))))
 else
some ((-5 : Int32), r1.2))))
set_option maxHeartbeats 4000000 in
theorem kX0_then (G : am_G) (M : am_M) (a1 : Int32) : am_C G 12 mX0_then [am_r 0 0, am_i a1] M (fun r => (some (am_i r.1), r.2)) (fX0_then M a1) := by
  refine am_met (nL := 2) (ls0 := [some (am_r 0 0), some (am_i a1)]) (by decide) rfl (Nat.le_of_ble_eq_true rfl) (And.intro rfl (And.intro rfl trivial)) ?_
  unfold fX0_then
  refine am_iload_n dX0_then_0 rfl rfl ?_
  refine am_i2l dX0_then_1 ?_
  refine am_lconst (v := 0) dX0_then_2 rfl ?_
  refine am_ldc2 dX0_then_3 q349 ?_
  refine am_cST lc_X0_3 (kX0_isIn G M ((a1).toInt64) (0 : Int64) (4 : Int64)) rfl rfl rfl rfl rfl dX0_then_6 ?_
  refine am_if_ne (tgt := 15) dX0_then_9 rfl ?_ ?_
  · refine am_bipush dX0_then_12 bp_m2 ?_
    exact am_iret dX0_then_14 rfl rfl
  · refine am_aload_n dX0_then_15 rfl rfl ?_
    refine am_cVX (as' := []) lc_X0_200 rfl (kX0_isRefused G M) rfl rfl rfl rfl rfl rfl dX0_then_16 (fun r1 => ?_)
    refine am_if_eq (tgt := 25) dX0_then_19 rfl ?_ ?_
    · refine am_iload_n dX0_then_25 rfl rfl ?_
      refine am_ite (fun h2 => ?_) (fun h2 => ?_)
      · refine am_swI (tgt := 56) 0 h2 dX0_then_26 (by decide) (by decide) rfl rfl ?_
        refine am_aload_n dX0_then_56 rfl rfl ?_
        refine am_getO (o2 := 3) lf_X0_42 rfl (by decide) dX0_then_57 ?_
        refine am_cVI (as' := []) lc_X0_180 rfl (kX1_lamps G r1.2 1) rfl rfl rfl rfl rfl rfl dX0_then_60 (fun v3 => ?_)
        exact am_iret dX0_then_63 rfl rfl
      refine am_ite (fun h4 => ?_) (fun h4 => ?_)
      · refine am_swI (tgt := 64) 1 h4 dX0_then_26 (by decide) (by decide) rfl rfl ?_
        refine am_aload_n dX0_then_64 rfl rfl ?_
        refine am_getO (o2 := 3) lf_X0_42 rfl (by decide) dX0_then_65 ?_
        refine am_get lf_X0_212 rfl rfl dX0_then_68 ?_
        exact am_iret dX0_then_71 rfl rfl
      refine am_ite (fun h5 => ?_) (fun h5 => ?_)
      · refine am_swI (tgt := 72) 2 h5 dX0_then_26 (by decide) (by decide) rfl rfl ?_
        refine am_aload_n dX0_then_72 rfl rfl ?_
        refine am_getO (o2 := 3) lf_X0_42 rfl (by decide) dX0_then_73 ?_
        refine am_cVI (as' := []) lc_X0_215 rfl (kX1_coalInAll G r1.2 1) rfl rfl rfl rfl rfl rfl dX0_then_76 (fun v6 => ?_)
        exact am_iret dX0_then_79 rfl rfl
      refine am_ite (fun h7 => ?_) (fun h7 => ?_)
      · refine am_swI (tgt := 80) 3 h7 dX0_then_26 (by decide) (by decide) rfl rfl ?_
        refine am_aload_n dX0_then_80 rfl rfl ?_
        refine am_get lf_X0_170 rfl rfl dX0_then_81 ?_
        exact am_iret dX0_then_84 rfl rfl
      refine am_swO (tgt := 85) dX0_then_26 (by have h2 := lv_neT (a := 0) h2 (by decide); have h4 := lv_neT (a := 1) h4 (by decide); have h5 := lv_neT (a := 2) h5 (by decide); have h7 := lv_neT (a := 3) h7 (by decide); omega) rfl ?_
      refine am_aload_n dX0_then_85 rfl rfl ?_
      refine am_get lf_X0_173 rfl rfl dX0_then_86 ?_
      exact am_iret dX0_then_89 rfl rfl
    · refine am_bipush dX0_then_22 bp_m5 ?_
      exact am_iret dX0_then_24 rfl rfl
def fX0_light (M : am_M) (a1 : Int32) : Option Int32 :=
(if (fX0_isGallery a1) = 0 then
some (-1 : Int32)
 else
(Option.bind (fX1_light (M 2) a1) fun v1 =>
some v1))
set_option maxHeartbeats 4000000 in
theorem kX0_light (G : am_G) (M : am_M) (a1 : Int32) : am_C G 7 mX0_light [am_r 0 0, am_i a1] M (fun r => (some (am_i r), M)) (fX0_light M a1) := by
  refine am_met (nL := 2) (ls0 := [some (am_r 0 0), some (am_i a1)]) (by decide) rfl (Nat.le_of_ble_eq_true rfl) (And.intro rfl (And.intro rfl trivial)) ?_
  unfold fX0_light
  refine am_iload_n dX0_light_0 rfl rfl ?_
  refine am_cST lc_X0_85 (kX0_isGallery G M a1) rfl rfl rfl rfl rfl dX0_light_1 ?_
  refine am_if_eq (tgt := 18) dX0_light_4 rfl ?_ ?_
  · refine am_iconst dX0_light_18 ic_m1 ?_
    exact am_iret dX0_light_19 rfl rfl
  · refine am_aload_n dX0_light_7 rfl rfl ?_
    refine am_getO (o2 := 2) lf_X0_38 rfl (by decide) dX0_light_8 ?_
    refine am_iload_n dX0_light_11 rfl rfl ?_
    refine am_cVI (as' := [am_i a1]) lc_X0_206 rfl (kX1_light G M 0 a1) rfl rfl rfl rfl rfl rfl dX0_light_12 (fun v1 => ?_)
    refine am_goto (tgt := 19) dX0_light_15 rfl ?_
    exact am_iret dX0_light_19 rfl rfl
def fX0_shakes_L12 (M : am_M) (s1 : (Int32 × Int32)) (rec2 : (Int32 × Int32) → Option (Int32 × Int32)) (s3 : (Int32 × Int32)) : Option (Int32 × Int32) :=
(if (8 : Int32) ≤ s3.2 then
some (s3.1, s3.2)
 else
(Option.bind (fX1_sings (M 2) s1.2) fun v4 =>
(Option.bind (if v4 = 0 then
some (0 : Int32)
 else
(Option.bind (fX1_sings (M 2) s3.2) fun v5 =>
(if v5 = 0 then
some (0 : Int32)
 else
(Option.bind (am_rd (M 2 10) 8 s1.2) fun v6 =>
(Option.bind (am_rd (M 2 10) 8 s3.2) fun v7 =>
(if v6 = v7 then
some (1 : Int32)
 else
some (0 : Int32))))))) fun (x8 : Int32) =>
(Option.bind (if x8 = 0 then
some (0 : Int32)
 else
(Option.bind (am_rd (M 2 11) 8 s1.2) fun v9 =>
(Option.bind (am_rd (M 2 11) 8 s3.2) fun v10 =>
(if (v9 - v10) = (1 : Int32) then
(Option.bind (am_rd (M 2 10) 8 s1.2) fun v11 =>
some ((1 : Int32) <<< (v11 &&& 31)))
 else
some (0 : Int32))))) fun (x12 : Int32) =>
rec2 ((s3.1 ||| x12), (s3.2 + 1))))))
def fX0_shakes_L4 (M : am_M) (rec1 : (Int32 × Int32) → Option (Int32 × Int32)) (s2 : (Int32 × Int32)) : Option (Int32 × Int32) :=
(if (8 : Int32) ≤ s2.2 then
some (s2.1, s2.2)
 else
(Option.bind (am_it (fX0_shakes_L12 M s2) am_fuel (s2.1, (0 : Int32))) fun (s3 : (Int32 × Int32)) =>
rec1 (s3.1, (s2.2 + 1))))
def fX0_shakes (M : am_M) : Option Int32 :=
(Option.bind (am_it (fX0_shakes_L4 M) am_fuel ((0 : Int32), (0 : Int32))) fun (s5 : (Int32 × Int32)) =>
some s5.1)
set_option maxHeartbeats 4000000 in
theorem kX0_shakes (G : am_G) (M : am_M)  : am_C G 4 mX0_shakes [am_r 0 0] M (fun r => (some (am_i r), M)) (fX0_shakes M) := by
  refine am_met (nL := 5) (ls0 := [some (am_r 0 0), none, none, none, none]) (by decide) rfl (Nat.le_of_ble_eq_true rfl) (And.intro rfl trivial) ?_
  unfold fX0_shakes
  refine am_iconst dX0_shakes_0 ic_0 ?_
  refine am_istore_n [some (am_r 0 0), some (am_i (0 : Int32)), none, none, none] dX0_shakes_1 rfl rfl (Nat.le_of_ble_eq_true rfl) rfl ?_
  refine am_iconst dX0_shakes_2 ic_0 ?_
  refine am_istore_n [some (am_r 0 0), some (am_i (0 : Int32)), some (am_i (0 : Int32)), none, none] dX0_shakes_3 rfl rfl (Nat.le_of_ble_eq_true rfl) rfl ?_
  refine am_join (β := (Int32 × Int32)) 126 (fun s5 => [none, some (am_i s5.1), none, none, none]) (fun _ => []) (fun s5 => M) (fun s5 => ?_) (fun hx4 => ?_)
  · refine am_iload_n dX0_shakes_126 rfl rfl ?_
    exact am_iret dX0_shakes_127 rfl rfl
  refine am_loop (σ := (Int32 × Int32)) (ls' := fun s1 => [some (am_r 0 0), some (am_i s1.1), some (am_i s1.2), none, none]) (st' := fun _ => []) (M' := fun s1 => M) (fun rec2 hr3 s1 => ?_) _ _
  unfold fX0_shakes_L4
  refine am_iload_n dX0_shakes_4 rfl rfl ?_
  refine am_bipush dX0_shakes_5 bp_8 ?_
  refine am_icmp_geB (tgt := 126) dX0_shakes_7 rfl ?_ ?_
  · exact am_dr (hx4 (s1.1, s1.2)) (And.intro rfl trivial)
  · refine am_iconst dX0_shakes_10 ic_0 ?_
    refine am_istore_n [some (am_r 0 0), some (am_i s1.1), some (am_i s1.2), some (am_i (0 : Int32)), none] dX0_shakes_11 rfl rfl (Nat.le_of_ble_eq_true rfl) rfl ?_
    refine am_as ?_
    refine am_join (β := (Int32 × Int32)) 120 (fun s10 => [some (am_r 0 0), some (am_i s10.1), some (am_i s1.2), none, none]) (fun _ => []) (fun s10 => M) (fun s10 => ?_) (fun hx9 => ?_)
    · refine am_iinc [some (am_r 0 0), some (am_i s10.1), some (am_i (s1.2 + 1)), none, none] dX0_shakes_120 rfl ic_1 rfl (Nat.le_of_ble_eq_true rfl) rfl ?_
      refine am_goto (tgt := 4) dX0_shakes_123 rfl ?_
      exact hr3 (s10.1, (s1.2 + 1))
    refine am_loop (σ := (Int32 × Int32)) (ls' := fun s6 => [some (am_r 0 0), some (am_i s6.1), some (am_i s1.2), some (am_i s6.2), none]) (st' := fun _ => []) (M' := fun s6 => M) (fun rec7 hr8 s6 => ?_) _ _
    unfold fX0_shakes_L12
    refine am_iload_n dX0_shakes_12 rfl rfl ?_
    refine am_bipush dX0_shakes_13 bp_8 ?_
    refine am_icmp_geB (tgt := 120) dX0_shakes_15 rfl ?_ ?_
    · exact am_dr (hx9 (s6.1, s6.2)) (And.intro rfl (And.intro rfl (And.intro rfl trivial)))
    · refine am_aload_n dX0_shakes_18 rfl rfl ?_
      refine am_getO (o2 := 2) lf_X0_38 rfl (by decide) dX0_shakes_19 ?_
      refine am_iload_n dX0_shakes_22 rfl rfl ?_
      refine am_as ?_
      refine am_cVI (as' := [am_i s1.2]) lc_X0_218 rfl (kX1_sings G M 0 s1.2) rfl rfl rfl rfl rfl rfl dX0_shakes_23 (fun v11 => ?_)
      refine am_as ?_
      refine am_join (β := Int32) 66 (fun x12 => [some (am_r 0 0), some (am_i s6.1), some (am_i s1.2), some (am_i s6.2), none]) (fun x12 => [am_i x12]) (fun x12 => M) (fun x12 => ?_) (fun hm13 => ?_)
      · refine am_istore [some (am_r 0 0), some (am_i s6.1), some (am_i s1.2), some (am_i s6.2), some (am_i x12)] dX0_shakes_66 rfl (Nat.le_of_ble_eq_true rfl) rfl ?_
        refine am_iload_n dX0_shakes_68 rfl rfl ?_
        refine am_iload dX0_shakes_69 rfl ?_
        refine am_as ?_
        refine am_join (β := Int32) 112 (fun x17 => [some (am_r 0 0), some (am_i s6.1), some (am_i s1.2), some (am_i s6.2), some (am_i x12)]) (fun x17 => [am_i x17, am_i s6.1]) (fun x17 => M) (fun x17 => ?_) (fun hm18 => ?_)
        · refine am_ior dX0_shakes_112 ?_
          refine am_istore_n [some (am_r 0 0), some (am_i (s6.1 ||| x17)), some (am_i s1.2), some (am_i s6.2), some (am_i x12)] dX0_shakes_113 rfl rfl (Nat.le_of_ble_eq_true rfl) rfl ?_
          refine am_iinc [some (am_r 0 0), some (am_i (s6.1 ||| x17)), some (am_i s1.2), some (am_i (s6.2 + 1)), some (am_i x12)] dX0_shakes_114 rfl ic_1 rfl (Nat.le_of_ble_eq_true rfl) rfl ?_
          refine am_goto (tgt := 12) dX0_shakes_117 rfl ?_
          exact am_dr (hr8 ((s6.1 ||| x17), (s6.2 + 1))) (And.intro rfl (And.intro rfl (And.intro rfl (And.intro rfl trivial))))
        refine am_if_eqB (tgt := 111) dX0_shakes_71 rfl ?_ ?_
        · refine am_iconst dX0_shakes_111 ic_0 ?_
          exact hm18 (0 : Int32)
        · refine am_aload_n dX0_shakes_74 rfl rfl ?_
          refine am_getO (o2 := 2) lf_X0_38 rfl (by decide) dX0_shakes_75 ?_
          refine am_getA lf_X0_130 rfl rfl dX0_shakes_78 ?_
          refine am_iload_n dX0_shakes_81 rfl rfl ?_
          refine am_as ?_
          refine am_iald (β := Unit) rfl dX0_shakes_82 (fun v19 => ?_)
          refine am_aload_n dX0_shakes_83 rfl rfl ?_
          refine am_getO (o2 := 2) lf_X0_38 rfl (by decide) dX0_shakes_84 ?_
          refine am_getA lf_X0_130 rfl rfl dX0_shakes_87 ?_
          refine am_iload_n dX0_shakes_90 rfl rfl ?_
          refine am_as ?_
          refine am_iald (β := Unit) rfl dX0_shakes_91 (fun v20 => ?_)
          refine am_isub dX0_shakes_92 ?_
          refine am_iconst dX0_shakes_93 ic_1 ?_
          refine am_icmp_neB (tgt := 111) dX0_shakes_94 rfl ?_ ?_
          · refine am_iconst dX0_shakes_97 ic_1 ?_
            refine am_aload_n dX0_shakes_98 rfl rfl ?_
            refine am_getO (o2 := 2) lf_X0_38 rfl (by decide) dX0_shakes_99 ?_
            refine am_getA lf_X0_127 rfl rfl dX0_shakes_102 ?_
            refine am_iload_n dX0_shakes_105 rfl rfl ?_
            refine am_as ?_
            refine am_iald (β := Unit) rfl dX0_shakes_106 (fun v21 => ?_)
            refine am_ishl dX0_shakes_107 ?_
            refine am_goto (tgt := 112) dX0_shakes_108 rfl ?_
            exact hm18 ((1 : Int32) <<< (v21 &&& 31))
          · refine am_iconst dX0_shakes_111 ic_0 ?_
            exact hm18 (0 : Int32)
      refine am_if_eqB (tgt := 65) dX0_shakes_26 rfl ?_ ?_
      · refine am_iconst dX0_shakes_65 ic_0 ?_
        exact hm13 (0 : Int32)
      · refine am_aload_n dX0_shakes_29 rfl rfl ?_
        refine am_getO (o2 := 2) lf_X0_38 rfl (by decide) dX0_shakes_30 ?_
        refine am_iload_n dX0_shakes_33 rfl rfl ?_
        refine am_as ?_
        refine am_cVI (as' := [am_i s6.2]) lc_X0_218 rfl (kX1_sings G M 0 s6.2) rfl rfl rfl rfl rfl rfl dX0_shakes_34 (fun v14 => ?_)
        refine am_if_eqB (tgt := 65) dX0_shakes_37 rfl ?_ ?_
        · refine am_iconst dX0_shakes_65 ic_0 ?_
          exact hm13 (0 : Int32)
        · refine am_aload_n dX0_shakes_40 rfl rfl ?_
          refine am_getO (o2 := 2) lf_X0_38 rfl (by decide) dX0_shakes_41 ?_
          refine am_getA lf_X0_127 rfl rfl dX0_shakes_44 ?_
          refine am_iload_n dX0_shakes_47 rfl rfl ?_
          refine am_as ?_
          refine am_iald (β := Unit) rfl dX0_shakes_48 (fun v15 => ?_)
          refine am_aload_n dX0_shakes_49 rfl rfl ?_
          refine am_getO (o2 := 2) lf_X0_38 rfl (by decide) dX0_shakes_50 ?_
          refine am_getA lf_X0_127 rfl rfl dX0_shakes_53 ?_
          refine am_iload_n dX0_shakes_56 rfl rfl ?_
          refine am_as ?_
          refine am_iald (β := Unit) rfl dX0_shakes_57 (fun v16 => ?_)
          refine am_icmp_neB (tgt := 65) dX0_shakes_58 rfl ?_ ?_
          · refine am_iconst dX0_shakes_61 ic_1 ?_
            refine am_goto (tgt := 66) dX0_shakes_62 rfl ?_
            exact hm13 (1 : Int32)
          · refine am_iconst dX0_shakes_65 ic_0 ?_
            exact hm13 (0 : Int32)
def fX0_open (M : am_M) : Int32 :=
((1023 : Int32) &&& ((M 2 4 0) ^^^ (-1 : Int32)))
set_option maxHeartbeats 4000000 in
theorem kX0_open (G : am_G) (M : am_M)  : am_C G 1 mX0_open [am_r 0 0] M (fun r => (some (am_i r), M)) (some (fX0_open M)) := by
  refine am_met (nL := 1) (ls0 := [some (am_r 0 0)]) (by decide) rfl (Nat.le_of_ble_eq_true rfl) (And.intro rfl trivial) ?_
  unfold fX0_open
  refine am_sipush dX0_open_0 sp_1023 ?_
  refine am_aload_n dX0_open_3 rfl rfl ?_
  refine am_getO (o2 := 2) lf_X0_38 rfl (by decide) dX0_open_4 ?_
  refine am_get lf_X0_225 rfl rfl dX0_open_7 ?_
  refine am_iconst dX0_open_10 ic_m1 ?_
  refine am_ixor dX0_open_11 ?_
  refine am_iand dX0_open_12 ?_
  exact am_iret dX0_open_13 rfl rfl
def fX0_farIn_L36 (M : am_M) (s1 : (Int32 × Int32)) (rec2 : (Int32 × Int32) → Option (Int32 × Int32)) (s3 : (Int32 × Int32)) : Option (Int32 × Int32) :=
(if (10 : Int32) ≤ s3.2 then
some (s3.1, s3.2)
 else
(Option.bind (if (fX0_holds s1.1 s3.2) = 0 then
some (0 : Int32)
 else
(Option.bind (am_rd (M 2 0) 10 s3.2) fun v4 =>
some v4)) fun (x5 : Int32) =>
rec2 ((s3.1 ||| x5), (s3.2 + 1))))
def fX0_farIn_L10 (M : am_M) (a1 : Int32) (a3 : Int32) (rec1 : (Int32 × Int32) → Option (Int32 ⊕ (Int32 × Int32))) (s2 : (Int32 × Int32)) : Option (Int32 ⊕ (Int32 × Int32)) :=
(if (10 : Int32) ≤ s2.2 then
some (.inr (s2.1, s2.2))
 else
(if (fX0_holds s2.1 a3) = 0 then
(Option.bind (am_it (fX0_farIn_L36 M s2) am_fuel (s2.1, (0 : Int32))) fun (s3 : (Int32 × Int32)) =>
rec1 ((s3.1 &&& a1), (s2.2 + 1)))
 else
some (.inl s2.2)))
def fX0_farIn (M : am_M) (a1 : Int32) (a2 : Int32) (a3 : Int32) : Option Int32 :=
(Option.bind (am_it (fX0_farIn_L10 M a1 a3) am_fuel ((((1 : Int32) <<< (a2 &&& 31)) &&& a1), (0 : Int32))) (Sum.elim some fun (s5 : (Int32 × Int32)) =>
some (-6 : Int32)))
set_option maxHeartbeats 4000000 in
theorem kX0_farIn (G : am_G) (M : am_M) (a1 : Int32) (a2 : Int32) (a3 : Int32) : am_C G 2 mX0_farIn [am_r 0 0, am_i a1, am_i a2, am_i a3] M (fun r => (some (am_i r), M)) (fX0_farIn M a1 a2 a3) := by
  refine am_met (nL := 8) (ls0 := [some (am_r 0 0), some (am_i a1), some (am_i a2), some (am_i a3), none, none, none, none]) (by decide) rfl (Nat.le_of_ble_eq_true rfl) (And.intro rfl (And.intro rfl (And.intro rfl (And.intro rfl trivial)))) ?_
  unfold fX0_farIn
  refine am_iconst dX0_farIn_0 ic_1 ?_
  refine am_iload_n dX0_farIn_1 rfl rfl ?_
  refine am_ishl dX0_farIn_2 ?_
  refine am_iload_n dX0_farIn_3 rfl rfl ?_
  refine am_iand dX0_farIn_4 ?_
  refine am_istore [some (am_r 0 0), some (am_i a1), some (am_i a2), some (am_i a3), some (am_i (((1 : Int32) <<< (a2 &&& 31)) &&& a1)), none, none, none] dX0_farIn_5 rfl (Nat.le_of_ble_eq_true rfl) rfl ?_
  refine am_iconst dX0_farIn_7 ic_0 ?_
  refine am_istore [some (am_r 0 0), some (am_i a1), some (am_i a2), some (am_i a3), some (am_i (((1 : Int32) <<< (a2 &&& 31)) &&& a1)), some (am_i (0 : Int32)), none, none] dX0_farIn_8 rfl (Nat.le_of_ble_eq_true rfl) rfl ?_
  refine am_joinR (S := (Int32 × Int32)) 90 (fun s5 => [none, none, none, none, none, none, none, none]) (fun _ => []) (fun s5 => M) (fun s5 => ?_) (fun hx4 => ?_)
  · refine am_bipush dX0_farIn_90 bp_m6 ?_
    exact am_iret dX0_farIn_92 rfl rfl
  refine am_drop (ls' := [some (am_r 0 0), some (am_i a1), none, some (am_i a3), some (am_i (((1 : Int32) <<< (a2 &&& 31)) &&& a1)), some (am_i (0 : Int32)), none, none]) (And.intro rfl (And.intro rfl (And.intro rfl (And.intro rfl (And.intro rfl trivial))))) ?_
  refine am_loop (σ := (Int32 × Int32)) (ls' := fun s1 => [some (am_r 0 0), some (am_i a1), none, some (am_i a3), some (am_i s1.1), some (am_i s1.2), none, none]) (st' := fun _ => []) (M' := fun s1 => M) (fun rec2 hr3 s1 => ?_) _ _
  unfold fX0_farIn_L10
  refine am_iload dX0_farIn_10 rfl ?_
  refine am_bipush dX0_farIn_12 bp_10 ?_
  refine am_icmp_geB (tgt := 90) dX0_farIn_14 rfl ?_ ?_
  · exact am_dr (hx4 (s1.1, s1.2)) trivial
  · refine am_iload dX0_farIn_17 rfl ?_
    refine am_iload_n dX0_farIn_19 rfl rfl ?_
    refine am_cST lc_X0_221 (kX0_holds G M s1.1 a3) rfl rfl rfl rfl rfl dX0_farIn_20 ?_
    refine am_if_eqB (tgt := 29) dX0_farIn_23 rfl ?_ ?_
    · refine am_iload dX0_farIn_29 rfl ?_
      refine am_istore [some (am_r 0 0), some (am_i a1), none, some (am_i a3), some (am_i s1.1), some (am_i s1.2), some (am_i s1.1), none] dX0_farIn_31 rfl (Nat.le_of_ble_eq_true rfl) rfl ?_
      refine am_iconst dX0_farIn_33 ic_0 ?_
      refine am_istore [some (am_r 0 0), some (am_i a1), none, some (am_i a3), some (am_i s1.1), some (am_i s1.2), some (am_i s1.1), some (am_i (0 : Int32))] dX0_farIn_34 rfl (Nat.le_of_ble_eq_true rfl) rfl ?_
      refine am_as ?_
      refine am_join (β := (Int32 × Int32)) 78 (fun s10 => [some (am_r 0 0), some (am_i a1), none, some (am_i a3), none, some (am_i s1.2), some (am_i s10.1), none]) (fun _ => []) (fun s10 => M) (fun s10 => ?_) (fun hx9 => ?_)
      · refine am_iload dX0_farIn_78 rfl ?_
        refine am_iload_n dX0_farIn_80 rfl rfl ?_
        refine am_iand dX0_farIn_81 ?_
        refine am_istore [some (am_r 0 0), some (am_i a1), none, some (am_i a3), some (am_i (s10.1 &&& a1)), some (am_i s1.2), some (am_i s10.1), none] dX0_farIn_82 rfl (Nat.le_of_ble_eq_true rfl) rfl ?_
        refine am_iinc [some (am_r 0 0), some (am_i a1), none, some (am_i a3), some (am_i (s10.1 &&& a1)), some (am_i (s1.2 + 1)), some (am_i s10.1), none] dX0_farIn_84 rfl ic_1 rfl (Nat.le_of_ble_eq_true rfl) rfl ?_
        refine am_goto (tgt := 10) dX0_farIn_87 rfl ?_
        exact am_dr (hr3 ((s10.1 &&& a1), (s1.2 + 1))) (And.intro rfl (And.intro rfl (And.intro rfl (And.intro rfl (And.intro rfl trivial)))))
      refine am_loop (σ := (Int32 × Int32)) (ls' := fun s6 => [some (am_r 0 0), some (am_i a1), none, some (am_i a3), some (am_i s1.1), some (am_i s1.2), some (am_i s6.1), some (am_i s6.2)]) (st' := fun _ => []) (M' := fun s6 => M) (fun rec7 hr8 s6 => ?_) _ _
      unfold fX0_farIn_L36
      refine am_iload dX0_farIn_36 rfl ?_
      refine am_bipush dX0_farIn_38 bp_10 ?_
      refine am_icmp_geB (tgt := 78) dX0_farIn_40 rfl ?_ ?_
      · exact am_dr (hx9 (s6.1, s6.2)) (And.intro rfl (And.intro rfl (And.intro rfl (And.intro rfl (And.intro rfl trivial)))))
      · refine am_iload dX0_farIn_43 rfl ?_
        refine am_iload dX0_farIn_45 rfl ?_
        refine am_iload dX0_farIn_47 rfl ?_
        refine am_cST lc_X0_221 (kX0_holds G M s1.1 s6.2) rfl rfl rfl rfl rfl dX0_farIn_49 ?_
        refine am_as ?_
        refine am_join (β := Int32) 69 (fun x11 => [some (am_r 0 0), some (am_i a1), none, some (am_i a3), some (am_i s1.1), some (am_i s1.2), some (am_i s6.1), some (am_i s6.2)]) (fun x11 => [am_i x11, am_i s6.1]) (fun x11 => M) (fun x11 => ?_) (fun hm12 => ?_)
        · refine am_ior dX0_farIn_69 ?_
          refine am_istore [some (am_r 0 0), some (am_i a1), none, some (am_i a3), some (am_i s1.1), some (am_i s1.2), some (am_i (s6.1 ||| x11)), some (am_i s6.2)] dX0_farIn_70 rfl (Nat.le_of_ble_eq_true rfl) rfl ?_
          refine am_iinc [some (am_r 0 0), some (am_i a1), none, some (am_i a3), some (am_i s1.1), some (am_i s1.2), some (am_i (s6.1 ||| x11)), some (am_i (s6.2 + 1))] dX0_farIn_72 rfl ic_1 rfl (Nat.le_of_ble_eq_true rfl) rfl ?_
          refine am_goto (tgt := 36) dX0_farIn_75 rfl ?_
          exact hr8 ((s6.1 ||| x11), (s6.2 + 1))
        refine am_if_eqB (tgt := 68) dX0_farIn_52 rfl ?_ ?_
        · refine am_iconst dX0_farIn_68 ic_0 ?_
          exact hm12 (0 : Int32)
        · refine am_aload_n dX0_farIn_55 rfl rfl ?_
          refine am_getO (o2 := 2) lf_X0_38 rfl (by decide) dX0_farIn_56 ?_
          refine am_getA lf_X0_88 rfl rfl dX0_farIn_59 ?_
          refine am_iload dX0_farIn_62 rfl ?_
          refine am_as ?_
          refine am_iald (β := Unit) rfl dX0_farIn_64 (fun v13 => ?_)
          refine am_goto (tgt := 69) dX0_farIn_65 rfl ?_
          exact hm12 v13
    · refine am_iload dX0_farIn_26 rfl ?_
      show am_R _ _ _ _ _ _ _ _ (some s1.2)
      exact am_iret dX0_farIn_28 rfl rfl
def fX0_way_L65 (M : am_M) (a1 : Int32) (a2 : Int32) (v1 : Int32) (v2 : Int32) (rec3 : (Int32 × Int32) → Option (Int32 × Int32)) (s4 : (Int32 × Int32)) : Option (Int32 × Int32) :=
(if s4.2 < 0 then
some (s4.1, s4.2)
 else
(Option.bind (if v1 ≤ 0 then
some s4.1
 else
(Option.bind (am_rd (M 2 0) 10 a1) fun v5 =>
(if (fX0_holds v5 s4.2) = 0 then
some s4.1
 else
(Option.bind (fX0_farIn M ((fX0_open M) &&& v2) s4.2 a2) fun v6 =>
(if v6 = (v1 - (1 : Int32)) then
some s4.2
 else
some s4.1))))) fun (x7 : Int32) =>
rec3 (x7, (s4.2 + (-1)))))
def fX0_way (M : am_M) (a1 : Int32) (a2 : Int32) (a3 : Int32) : Option Int32 :=
(if (fX0_isGallery a1) = 0 then
some (-1 : Int32)
 else
(if (fX0_isGallery a2) = 0 then
some (-1 : Int32)
 else
(if (fX0_isEnd a3) = 0 then
some (-2 : Int32)
 else
(Option.bind (fX1_lamps (M 2)) fun v1 =>
(Option.bind (fX0_farIn M ((fX0_open M) &&& v1) a1 a2) fun v2 =>
(if a3 = 0 then
some v2
 else
(Option.bind (am_it (fX0_way_L65 M a1 a2 v2 v1) am_fuel ((-6 : Int32), (9 : Int32))) fun (s7 : (Int32 × Int32)) =>
some s7.1)))))))
set_option maxHeartbeats 4000000 in
theorem kX0_way (G : am_G) (M : am_M) (a1 : Int32) (a2 : Int32) (a3 : Int32) : am_C G 8 mX0_way [am_r 0 0, am_i a1, am_i a2, am_i a3] M (fun r => (some (am_i r), M)) (fX0_way M a1 a2 a3) := by
  refine am_met (nL := 8) (ls0 := [some (am_r 0 0), some (am_i a1), some (am_i a2), some (am_i a3), none, none, none, none]) (by decide) rfl (Nat.le_of_ble_eq_true rfl) (And.intro rfl (And.intro rfl (And.intro rfl (And.intro rfl trivial)))) ?_
  unfold fX0_way
  refine am_iload_n dX0_way_0 rfl rfl ?_
  refine am_cST lc_X0_85 (kX0_isGallery G M a1) rfl rfl rfl rfl rfl dX0_way_1 ?_
  refine am_if_eq (tgt := 14) dX0_way_4 rfl ?_ ?_
  · refine am_iconst dX0_way_14 ic_m1 ?_
    exact am_iret dX0_way_15 rfl rfl
  · refine am_iload_n dX0_way_7 rfl rfl ?_
    refine am_cST lc_X0_85 (kX0_isGallery G M a2) rfl rfl rfl rfl rfl dX0_way_8 ?_
    refine am_if_ne (tgt := 16) dX0_way_11 rfl ?_ ?_
    · refine am_iconst dX0_way_14 ic_m1 ?_
      exact am_iret dX0_way_15 rfl rfl
    · refine am_iload_n dX0_way_16 rfl rfl ?_
      refine am_cST lc_X0_197 (kX0_isEnd G M a3) rfl rfl rfl rfl rfl dX0_way_17 ?_
      refine am_if_ne (tgt := 26) dX0_way_20 rfl ?_ ?_
      · refine am_bipush dX0_way_23 bp_m2 ?_
        exact am_iret dX0_way_25 rfl rfl
      · refine am_aload_n dX0_way_26 rfl rfl ?_
        refine am_cVT (as' := []) lc_X0_228 rfl (kX0_open G M) rfl rfl rfl rfl rfl rfl dX0_way_27 ?_
        refine am_aload_n dX0_way_30 rfl rfl ?_
        refine am_getO (o2 := 2) lf_X0_38 rfl (by decide) dX0_way_31 ?_
        refine am_cVI (as' := []) lc_X0_180 rfl (kX1_lamps G M 0) rfl rfl rfl rfl rfl rfl dX0_way_34 (fun v1 => ?_)
        refine am_iand dX0_way_37 ?_
        refine am_istore [some (am_r 0 0), some (am_i a1), some (am_i a2), some (am_i a3), some (am_i ((fX0_open M) &&& v1)), none, none, none] dX0_way_38 rfl (Nat.le_of_ble_eq_true rfl) rfl ?_
        refine am_aload_n dX0_way_40 rfl rfl ?_
        refine am_iload dX0_way_41 rfl ?_
        refine am_iload_n dX0_way_43 rfl rfl ?_
        refine am_iload_n dX0_way_44 rfl rfl ?_
        refine am_cVI (as' := [am_i ((fX0_open M) &&& v1), am_i a1, am_i a2]) lc_X0_231 rfl (kX0_farIn G M ((fX0_open M) &&& v1) a1 a2) rfl rfl rfl rfl rfl rfl dX0_way_45 (fun v2 => ?_)
        refine am_istore [some (am_r 0 0), some (am_i a1), some (am_i a2), some (am_i a3), some (am_i ((fX0_open M) &&& v1)), some (am_i v2), none, none] dX0_way_48 rfl (Nat.le_of_ble_eq_true rfl) rfl ?_
        refine am_iload_n dX0_way_50 rfl rfl ?_
        refine am_if_ne (tgt := 57) dX0_way_51 rfl ?_ ?_
        · refine am_iload dX0_way_54 rfl ?_
          exact am_iret dX0_way_56 rfl rfl
        · refine am_bipush dX0_way_57 bp_m6 ?_
          refine am_istore [some (am_r 0 0), some (am_i a1), some (am_i a2), some (am_i a3), some (am_i ((fX0_open M) &&& v1)), some (am_i v2), some (am_i (-6 : Int32)), none] dX0_way_59 rfl (Nat.le_of_ble_eq_true rfl) rfl ?_
          refine am_bipush dX0_way_61 bp_9 ?_
          refine am_istore [some (am_r 0 0), some (am_i a1), some (am_i a2), some (am_i a3), some (am_i ((fX0_open M) &&& v1)), some (am_i v2), some (am_i (-6 : Int32)), some (am_i (9 : Int32))] dX0_way_63 rfl (Nat.le_of_ble_eq_true rfl) rfl ?_
          refine am_join (β := (Int32 × Int32)) 123 (fun s7 => [none, none, none, none, none, none, some (am_i s7.1), none]) (fun _ => []) (fun s7 => M) (fun s7 => ?_) (fun hx6 => ?_)
          · refine am_iload dX0_way_123 rfl ?_
            exact am_iret dX0_way_125 rfl rfl
          refine am_drop (ls' := [some (am_r 0 0), some (am_i a1), some (am_i a2), none, some (am_i ((fX0_open M) &&& v1)), some (am_i v2), some (am_i (-6 : Int32)), some (am_i (9 : Int32))]) (And.intro rfl (And.intro rfl (And.intro rfl (And.intro rfl (And.intro rfl (And.intro rfl (And.intro rfl trivial))))))) ?_
          refine am_loop (σ := (Int32 × Int32)) (ls' := fun s3 => [some (am_r 0 0), some (am_i a1), some (am_i a2), none, some (am_i ((fX0_open M) &&& v1)), some (am_i v2), some (am_i s3.1), some (am_i s3.2)]) (st' := fun _ => []) (M' := fun s3 => M) (fun rec4 hr5 s3 => ?_) _ _
          unfold fX0_way_L65
          refine am_iload dX0_way_65 rfl ?_
          refine am_if_ltB (tgt := 123) dX0_way_67 rfl ?_ ?_
          · exact am_dr (hx6 (s3.1, s3.2)) (And.intro rfl trivial)
          · refine am_iload dX0_way_70 rfl ?_
            refine am_as ?_
            refine am_join (β := Int32) 115 (fun x8 => [some (am_r 0 0), some (am_i a1), some (am_i a2), none, some (am_i ((fX0_open M) &&& v1)), some (am_i v2), some (am_i s3.1), some (am_i s3.2)]) (fun x8 => [am_i x8]) (fun x8 => M) (fun x8 => ?_) (fun hm9 => ?_)
            · refine am_istore [some (am_r 0 0), some (am_i a1), some (am_i a2), none, some (am_i ((fX0_open M) &&& v1)), some (am_i v2), some (am_i x8), some (am_i s3.2)] dX0_way_115 rfl (Nat.le_of_ble_eq_true rfl) rfl ?_
              refine am_iinc [some (am_r 0 0), some (am_i a1), some (am_i a2), none, some (am_i ((fX0_open M) &&& v1)), some (am_i v2), some (am_i x8), some (am_i (s3.2 + (-1)))] dX0_way_117 rfl ic_m1 rfl (Nat.le_of_ble_eq_true rfl) rfl ?_
              refine am_goto (tgt := 65) dX0_way_120 rfl ?_
              exact hr5 (x8, (s3.2 + (-1)))
            refine am_if_leB (tgt := 113) dX0_way_72 rfl ?_ ?_
            · refine am_iload dX0_way_113 rfl ?_
              exact hm9 s3.1
            · refine am_aload_n dX0_way_75 rfl rfl ?_
              refine am_getO (o2 := 2) lf_X0_38 rfl (by decide) dX0_way_76 ?_
              refine am_getA lf_X0_88 rfl rfl dX0_way_79 ?_
              refine am_iload_n dX0_way_82 rfl rfl ?_
              refine am_as ?_
              refine am_iald (β := Unit) rfl dX0_way_83 (fun v10 => ?_)
              refine am_iload dX0_way_84 rfl ?_
              refine am_cST lc_X0_221 (kX0_holds G M v10 s3.2) rfl rfl rfl rfl rfl dX0_way_86 ?_
              refine am_if_eqB (tgt := 113) dX0_way_89 rfl ?_ ?_
              · refine am_iload dX0_way_113 rfl ?_
                exact hm9 s3.1
              · refine am_aload_n dX0_way_92 rfl rfl ?_
                refine am_iload dX0_way_93 rfl ?_
                refine am_iload dX0_way_95 rfl ?_
                refine am_iload_n dX0_way_97 rfl rfl ?_
                refine am_as ?_
                refine am_cVI (as' := [am_i ((fX0_open M) &&& v1), am_i s3.2, am_i a2]) lc_X0_231 rfl (kX0_farIn G M ((fX0_open M) &&& v1) s3.2 a2) rfl rfl rfl rfl rfl rfl dX0_way_98 (fun v11 => ?_)
                refine am_iload dX0_way_101 rfl ?_
                refine am_iconst dX0_way_103 ic_1 ?_
                refine am_isub dX0_way_104 ?_
                refine am_icmp_neB (tgt := 113) dX0_way_105 rfl ?_ ?_
                · refine am_iload dX0_way_108 rfl ?_
                  refine am_goto (tgt := 115) dX0_way_110 rfl ?_
                  exact hm9 s3.2
                · refine am_iload dX0_way_113 rfl ?_
                  exact hm9 s3.1
def fX0_litBy_L4 (M : am_M) (a1 : Int32) (rec1 : (Int32 × Int32) → Option (Int32 × Int32)) (s2 : (Int32 × Int32)) : Option (Int32 × Int32) :=
(if (10 : Int32) ≤ s2.2 then
some (s2.1, s2.2)
 else
(Option.bind (if (fX0_holds a1 s2.2) = 0 then
some (0 : Int32)
 else
(Option.bind (am_rd (M 2 1) 10 s2.2) fun v3 =>
some ((1 : Int32) <<< (v3 &&& 31)))) fun (x4 : Int32) =>
rec1 ((s2.1 ||| x4), (s2.2 + 1))))
def fX0_litBy (M : am_M) (a1 : Int32) : Option Int32 :=
(Option.bind (am_it (fX0_litBy_L4 M a1) am_fuel (a1, (0 : Int32))) fun (s5 : (Int32 × Int32)) =>
some s5.1)
set_option maxHeartbeats 4000000 in
theorem kX0_litBy (G : am_G) (M : am_M) (a1 : Int32) : am_C G 2 mX0_litBy [am_r 0 0, am_i a1] M (fun r => (some (am_i r), M)) (fX0_litBy M a1) := by
  refine am_met (nL := 4) (ls0 := [some (am_r 0 0), some (am_i a1), none, none]) (by decide) rfl (Nat.le_of_ble_eq_true rfl) (And.intro rfl (And.intro rfl trivial)) ?_
  unfold fX0_litBy
  refine am_iload_n dX0_litBy_0 rfl rfl ?_
  refine am_istore_n [some (am_r 0 0), some (am_i a1), some (am_i a1), none] dX0_litBy_1 rfl rfl (Nat.le_of_ble_eq_true rfl) rfl ?_
  refine am_iconst dX0_litBy_2 ic_0 ?_
  refine am_istore_n [some (am_r 0 0), some (am_i a1), some (am_i a1), some (am_i (0 : Int32))] dX0_litBy_3 rfl rfl (Nat.le_of_ble_eq_true rfl) rfl ?_
  refine am_join (β := (Int32 × Int32)) 42 (fun s5 => [none, none, some (am_i s5.1), none]) (fun _ => []) (fun s5 => M) (fun s5 => ?_) (fun hx4 => ?_)
  · refine am_iload_n dX0_litBy_42 rfl rfl ?_
    exact am_iret dX0_litBy_43 rfl rfl
  refine am_loop (σ := (Int32 × Int32)) (ls' := fun s1 => [some (am_r 0 0), some (am_i a1), some (am_i s1.1), some (am_i s1.2)]) (st' := fun _ => []) (M' := fun s1 => M) (fun rec2 hr3 s1 => ?_) _ _
  unfold fX0_litBy_L4
  refine am_iload_n dX0_litBy_4 rfl rfl ?_
  refine am_bipush dX0_litBy_5 bp_10 ?_
  refine am_icmp_geB (tgt := 42) dX0_litBy_7 rfl ?_ ?_
  · exact am_dr (hx4 (s1.1, s1.2)) (And.intro rfl trivial)
  · refine am_iload_n dX0_litBy_10 rfl rfl ?_
    refine am_iload_n dX0_litBy_11 rfl rfl ?_
    refine am_iload_n dX0_litBy_12 rfl rfl ?_
    refine am_cST lc_X0_221 (kX0_holds G M a1 s1.2) rfl rfl rfl rfl rfl dX0_litBy_13 ?_
    refine am_as ?_
    refine am_join (β := Int32) 34 (fun x6 => [some (am_r 0 0), some (am_i a1), some (am_i s1.1), some (am_i s1.2)]) (fun x6 => [am_i x6, am_i s1.1]) (fun x6 => M) (fun x6 => ?_) (fun hm7 => ?_)
    · refine am_ior dX0_litBy_34 ?_
      refine am_istore_n [some (am_r 0 0), some (am_i a1), some (am_i (s1.1 ||| x6)), some (am_i s1.2)] dX0_litBy_35 rfl rfl (Nat.le_of_ble_eq_true rfl) rfl ?_
      refine am_iinc [some (am_r 0 0), some (am_i a1), some (am_i (s1.1 ||| x6)), some (am_i (s1.2 + 1))] dX0_litBy_36 rfl ic_1 rfl (Nat.le_of_ble_eq_true rfl) rfl ?_
      refine am_goto (tgt := 4) dX0_litBy_39 rfl ?_
      exact hr3 ((s1.1 ||| x6), (s1.2 + 1))
    refine am_if_eqB (tgt := 33) dX0_litBy_16 rfl ?_ ?_
    · refine am_iconst dX0_litBy_33 ic_0 ?_
      exact hm7 (0 : Int32)
    · refine am_iconst dX0_litBy_19 ic_1 ?_
      refine am_aload_n dX0_litBy_20 rfl rfl ?_
      refine am_getO (o2 := 2) lf_X0_38 rfl (by decide) dX0_litBy_21 ?_
      refine am_getA lf_X0_100 rfl rfl dX0_litBy_24 ?_
      refine am_iload_n dX0_litBy_27 rfl rfl ?_
      refine am_as ?_
      refine am_iald (β := Unit) rfl dX0_litBy_28 (fun v8 => ?_)
      refine am_ishl dX0_litBy_29 ?_
      refine am_goto (tgt := 34) dX0_litBy_30 rfl ?_
      exact hm7 ((1 : Int32) <<< (v8 &&& 31))
def fX0_fewest_L29 (M : am_M) (a1 : Int32) (rec1 : (Int32 × Int32) → Option (Int32 × Int32)) (s2 : (Int32 × Int32)) : Option (Int32 × Int32) :=
(if s2.2 < 0 then
some (s2.1, s2.2)
 else
(Option.bind (fJ0_bitCount s2.2) fun v3 =>
(Option.bind (fJ0_bitCount s2.1) fun v4 =>
(Option.bind (if v4 < v3 then
some (0 : Int32)
 else
some (1 : Int32)) fun (x5 : Int32) =>
(Option.bind (if x5 = 0 then
some s2.1
 else
(Option.bind (fX0_litBy M s2.2) fun v6 =>
(if (a1 &&& (v6 ^^^ (-1 : Int32))) = 0 then
some s2.2
 else
some s2.1))) fun (x7 : Int32) =>
rec1 (x7, (s2.2 + (-1))))))))
def fX0_fewest (M : am_M) (a1 : Int32) (a2 : Int32) : Option Int32 :=
(if (fX0_isIn ((a1).toInt64) (0 : Int64) (1023 : Int64)) = 0 then
some (-2 : Int32)
 else
(if (fX0_isEnd a2) = 0 then
some (-2 : Int32)
 else
(Option.bind (am_it (fX0_fewest_L29 M a1) am_fuel (a1, (1023 : Int32))) fun (s5 : (Int32 × Int32)) =>
(if a2 = 0 then
(Option.bind (fJ0_bitCount s5.1) fun v13 =>
some v13)
 else
some s5.1))))
set_option maxHeartbeats 4000000 in
theorem kX0_fewest (G : am_G) (M : am_M) (a1 : Int32) (a2 : Int32) : am_C G 3 mX0_fewest [am_r 0 0, am_i a1, am_i a2] M (fun r => (some (am_i r), M)) (fX0_fewest M a1 a2) := by
  refine am_met (nL := 6) (ls0 := [some (am_r 0 0), some (am_i a1), some (am_i a2), none, none, none]) (by decide) rfl (Nat.le_of_ble_eq_true rfl) (And.intro rfl (And.intro rfl (And.intro rfl trivial))) ?_
  unfold fX0_fewest
  refine am_iload_n dX0_fewest_0 rfl rfl ?_
  refine am_i2l dX0_fewest_1 ?_
  refine am_lconst (v := 0) dX0_fewest_2 rfl ?_
  refine am_ldc2 dX0_fewest_3 q428 ?_
  refine am_cST lc_X0_3 (kX0_isIn G M ((a1).toInt64) (0 : Int64) (1023 : Int64)) rfl rfl rfl rfl rfl dX0_fewest_6 ?_
  refine am_if_eq (tgt := 19) dX0_fewest_9 rfl ?_ ?_
  · refine am_bipush dX0_fewest_19 bp_m2 ?_
    exact am_iret dX0_fewest_21 rfl rfl
  · refine am_iload_n dX0_fewest_12 rfl rfl ?_
    refine am_cST lc_X0_197 (kX0_isEnd G M a2) rfl rfl rfl rfl rfl dX0_fewest_13 ?_
    refine am_if_ne (tgt := 22) dX0_fewest_16 rfl ?_ ?_
    · refine am_bipush dX0_fewest_19 bp_m2 ?_
      exact am_iret dX0_fewest_21 rfl rfl
    · refine am_iload_n dX0_fewest_22 rfl rfl ?_
      refine am_istore_n [some (am_r 0 0), some (am_i a1), some (am_i a2), some (am_i a1), none, none] dX0_fewest_23 rfl rfl (Nat.le_of_ble_eq_true rfl) rfl ?_
      refine am_sipush dX0_fewest_24 sp_1023 ?_
      refine am_istore [some (am_r 0 0), some (am_i a1), some (am_i a2), some (am_i a1), some (am_i (1023 : Int32)), none] dX0_fewest_27 rfl (Nat.le_of_ble_eq_true rfl) rfl ?_
      refine am_join (β := (Int32 × Int32)) 84 (fun s5 => [none, none, some (am_i a2), some (am_i s5.1), none, none]) (fun _ => []) (fun s5 => M) (fun s5 => ?_) (fun hx4 => ?_)
      · refine am_iload_n dX0_fewest_84 rfl rfl ?_
        refine am_if_ne (tgt := 95) dX0_fewest_85 rfl ?_ ?_
        · refine am_iload_n dX0_fewest_88 rfl rfl ?_
          refine am_cSI lc_X0_95 (kJ0_bitCount G M s5.1) rfl rfl rfl rfl rfl dX0_fewest_89 (fun v13 => ?_)
          refine am_goto (tgt := 96) dX0_fewest_92 rfl ?_
          exact am_iret dX0_fewest_96 rfl rfl
        · refine am_iload_n dX0_fewest_95 rfl rfl ?_
          exact am_iret dX0_fewest_96 rfl rfl
      refine am_loop (σ := (Int32 × Int32)) (ls' := fun s1 => [some (am_r 0 0), some (am_i a1), some (am_i a2), some (am_i s1.1), some (am_i s1.2), none]) (st' := fun _ => []) (M' := fun s1 => M) (fun rec2 hr3 s1 => ?_) _ _
      unfold fX0_fewest_L29
      refine am_iload dX0_fewest_29 rfl ?_
      refine am_if_ltB (tgt := 84) dX0_fewest_31 rfl ?_ ?_
      · exact am_dr (hx4 (s1.1, s1.2)) (And.intro rfl (And.intro rfl trivial))
      · refine am_iload dX0_fewest_34 rfl ?_
        refine am_as ?_
        refine am_cSI lc_X0_95 (kJ0_bitCount G M s1.2) rfl rfl rfl rfl rfl dX0_fewest_36 (fun v6 => ?_)
        refine am_iload_n dX0_fewest_39 rfl rfl ?_
        refine am_as ?_
        refine am_cSI lc_X0_95 (kJ0_bitCount G M s1.1) rfl rfl rfl rfl rfl dX0_fewest_40 (fun v7 => ?_)
        refine am_as ?_
        refine am_join (β := Int32) 51 (fun x8 => [some (am_r 0 0), some (am_i a1), some (am_i a2), some (am_i s1.1), some (am_i s1.2), none]) (fun x8 => [am_i x8]) (fun x8 => M) (fun x8 => ?_) (fun hm9 => ?_)
        · refine am_istore [some (am_r 0 0), some (am_i a1), some (am_i a2), some (am_i s1.1), some (am_i s1.2), some (am_i x8)] dX0_fewest_51 rfl (Nat.le_of_ble_eq_true rfl) rfl ?_
          refine am_iload dX0_fewest_53 rfl ?_
          refine am_as ?_
          refine am_join (β := Int32) 77 (fun x10 => [some (am_r 0 0), some (am_i a1), some (am_i a2), some (am_i s1.1), some (am_i s1.2), some (am_i x8)]) (fun x10 => [am_i x10]) (fun x10 => M) (fun x10 => ?_) (fun hm11 => ?_)
          · refine am_istore_n [some (am_r 0 0), some (am_i a1), some (am_i a2), some (am_i x10), some (am_i s1.2), some (am_i x8)] dX0_fewest_77 rfl rfl (Nat.le_of_ble_eq_true rfl) rfl ?_
            refine am_iinc [some (am_r 0 0), some (am_i a1), some (am_i a2), some (am_i x10), some (am_i (s1.2 + (-1))), some (am_i x8)] dX0_fewest_78 rfl ic_m1 rfl (Nat.le_of_ble_eq_true rfl) rfl ?_
            refine am_goto (tgt := 29) dX0_fewest_81 rfl ?_
            exact am_dr (hr3 (x10, (s1.2 + (-1)))) (And.intro rfl (And.intro rfl (And.intro rfl (And.intro rfl (And.intro rfl trivial)))))
          refine am_if_eqB (tgt := 76) dX0_fewest_55 rfl ?_ ?_
          · refine am_iload_n dX0_fewest_76 rfl rfl ?_
            exact hm11 s1.1
          · refine am_iload_n dX0_fewest_58 rfl rfl ?_
            refine am_aload_n dX0_fewest_59 rfl rfl ?_
            refine am_iload dX0_fewest_60 rfl ?_
            refine am_as ?_
            refine am_cVI (as' := [am_i s1.2]) lc_X0_236 rfl (kX0_litBy G M s1.2) rfl rfl rfl rfl rfl rfl dX0_fewest_62 (fun v12 => ?_)
            refine am_iconst dX0_fewest_65 ic_m1 ?_
            refine am_ixor dX0_fewest_66 ?_
            refine am_iand dX0_fewest_67 ?_
            refine am_if_neB (tgt := 76) dX0_fewest_68 rfl ?_ ?_
            · refine am_iload dX0_fewest_71 rfl ?_
              refine am_goto (tgt := 77) dX0_fewest_73 rfl ?_
              exact hm11 s1.2
            · refine am_iload_n dX0_fewest_76 rfl rfl ?_
              exact hm11 s1.1
        refine am_icmp_gtB (tgt := 50) dX0_fewest_43 rfl ?_ ?_
        · refine am_iconst dX0_fewest_50 ic_0 ?_
          exact hm9 (0 : Int32)
        · refine am_iconst dX0_fewest_46 ic_1 ?_
          refine am_goto (tgt := 51) dX0_fewest_47 rfl ?_
          exact hm9 (1 : Int32)
def fX1_singing_L4 (m : Nat → Nat → Int32) (rec1 : (Int32 × Int32) → Option (Int32 × Int32)) (s2 : (Int32 × Int32)) : Option (Int32 × Int32) :=
(if (8 : Int32) ≤ s2.2 then
some (s2.1, s2.2)
 else
(Option.bind (fX1_sings m s2.2) fun v3 =>
(Option.bind (if v3 = 0 then
some (0 : Int32)
 else
some ((1 : Int32) <<< (s2.2 &&& 31))) fun (x4 : Int32) =>
rec1 ((s2.1 ||| x4), (s2.2 + 1)))))
def fX1_singing (m : Nat → Nat → Int32) : Option Int32 :=
(Option.bind (am_it (fX1_singing_L4 m) am_fuel ((0 : Int32), (0 : Int32))) fun (s5 : (Int32 × Int32)) =>
some s5.1)
set_option maxHeartbeats 4000000 in
theorem kX1_singing (G : am_G) (M : am_M) (j : Nat)  : am_C G 4 mX1_singing [am_r (j + 2) 0] M (fun r => (some (am_i r), M)) (fX1_singing (M (j + 2))) := by
  refine am_met (nL := 3) (ls0 := [some (am_r (j + 2) 0), none, none]) (by decide) rfl (Nat.le_of_ble_eq_true rfl) (And.intro rfl trivial) ?_
  unfold fX1_singing
  refine am_iconst dX1_singing_0 ic_0 ?_
  refine am_istore_n [some (am_r (j + 2) 0), some (am_i (0 : Int32)), none] dX1_singing_1 rfl rfl (Nat.le_of_ble_eq_true rfl) rfl ?_
  refine am_iconst dX1_singing_2 ic_0 ?_
  refine am_istore_n [some (am_r (j + 2) 0), some (am_i (0 : Int32)), some (am_i (0 : Int32))] dX1_singing_3 rfl rfl (Nat.le_of_ble_eq_true rfl) rfl ?_
  refine am_join (β := (Int32 × Int32)) 34 (fun s5 => [none, some (am_i s5.1), none]) (fun _ => []) (fun s5 => M) (fun s5 => ?_) (fun hx4 => ?_)
  · refine am_iload_n dX1_singing_34 rfl rfl ?_
    exact am_iret dX1_singing_35 rfl rfl
  refine am_loop (σ := (Int32 × Int32)) (ls' := fun s1 => [some (am_r (j + 2) 0), some (am_i s1.1), some (am_i s1.2)]) (st' := fun _ => []) (M' := fun s1 => M) (fun rec2 hr3 s1 => ?_) _ _
  unfold fX1_singing_L4
  refine am_iload_n dX1_singing_4 rfl rfl ?_
  refine am_bipush dX1_singing_5 bp_8 ?_
  refine am_icmp_geB (tgt := 34) dX1_singing_7 rfl ?_ ?_
  · exact am_dr (hx4 (s1.1, s1.2)) (And.intro rfl trivial)
  · refine am_iload_n dX1_singing_10 rfl rfl ?_
    refine am_aload_n dX1_singing_11 rfl rfl ?_
    refine am_iload_n dX1_singing_12 rfl rfl ?_
    refine am_as ?_
    refine am_cVI (as' := [am_i s1.2]) lc_X1_80 rfl (kX1_sings G M j s1.2) rfl rfl rfl rfl rfl rfl dX1_singing_13 (fun v6 => ?_)
    refine am_as ?_
    refine am_join (β := Int32) 26 (fun x7 => [some (am_r (j + 2) 0), some (am_i s1.1), some (am_i s1.2)]) (fun x7 => [am_i x7, am_i s1.1]) (fun x7 => M) (fun x7 => ?_) (fun hm8 => ?_)
    · refine am_ior dX1_singing_26 ?_
      refine am_istore_n [some (am_r (j + 2) 0), some (am_i (s1.1 ||| x7)), some (am_i s1.2)] dX1_singing_27 rfl rfl (Nat.le_of_ble_eq_true rfl) rfl ?_
      refine am_iinc [some (am_r (j + 2) 0), some (am_i (s1.1 ||| x7)), some (am_i (s1.2 + 1))] dX1_singing_28 rfl ic_1 rfl (Nat.le_of_ble_eq_true rfl) rfl ?_
      refine am_goto (tgt := 4) dX1_singing_31 rfl ?_
      exact hr3 ((s1.1 ||| x7), (s1.2 + 1))
    refine am_if_eqB (tgt := 25) dX1_singing_16 rfl ?_ ?_
    · refine am_iconst dX1_singing_25 ic_0 ?_
      exact hm8 (0 : Int32)
    · refine am_iconst dX1_singing_19 ic_1 ?_
      refine am_iload_n dX1_singing_20 rfl rfl ?_
      refine am_ishl dX1_singing_21 ?_
      refine am_goto (tgt := 26) dX1_singing_22 rfl ?_
      exact hm8 ((1 : Int32) <<< (s1.2 &&& 31))
def fX0_isKept_L10 (M : am_M) (a1 : Int32) (s1 : Int32) (rec2 : Int32 → Option (Int32 ⊕ Int32)) (s3 : Int32) : Option (Int32 ⊕ Int32) :=
(if (8 : Int32) ≤ s3 then
some (.inr s3)
 else
(Option.bind (if (fX0_holds a1 s1) = 0 then
some (0 : Int32)
 else
(if (fX0_holds a1 s3) = 0 then
some (0 : Int32)
 else
(Option.bind (am_rd (M 2 10) 8 s1) fun v4 =>
(Option.bind (am_rd (M 2 10) 8 s3) fun v5 =>
(if v4 = v5 then
some (1 : Int32)
 else
some (0 : Int32)))))) fun (x6 : Int32) =>
(if x6 = 0 then
rec2 (s3 + 1)
 else
(Option.bind (am_rd (M 2 10) 8 s1) fun v7 =>
(if (fX0_holds (M 2 3 0) v7) = 0 then
rec2 (s3 + 1)
 else
(Option.bind (am_rd (M 2 11) 8 s1) fun v8 =>
(Option.bind (am_rd (M 2 11) 8 s3) fun v9 =>
(if (fX0_isThird v8 v9) = 0 then
rec2 (s3 + 1)
 else
some (.inl (0 : Int32))))))))))
def fX0_isKept_L2 (M : am_M) (a1 : Int32) (rec1 : Int32 → Option (Int32 ⊕ Int32)) (s2 : Int32) : Option (Int32 ⊕ Int32) :=
(if (8 : Int32) ≤ s2 then
some (.inr s2)
 else
(Option.bind (am_it (fX0_isKept_L10 M a1 s2) am_fuel (0 : Int32)) (Sum.elim (fun r => some (.inl r)) fun (s3 : Int32) =>
rec1 (s2 + 1))))
def fX0_isKept (M : am_M) (a1 : Int32) : Option Int32 :=
(Option.bind (am_it (fX0_isKept_L2 M a1) am_fuel (0 : Int32)) (Sum.elim some fun (s5 : Int32) =>
some (1 : Int32)))
set_option maxHeartbeats 4000000 in
theorem kX0_isKept (G : am_G) (M : am_M) (a1 : Int32) : am_C G 3 mX0_isKept [am_r 0 0, am_i a1] M (fun r => (some (am_i r), M)) (fX0_isKept M a1) := by
  refine am_met (nL := 5) (ls0 := [some (am_r 0 0), some (am_i a1), none, none, none]) (by decide) rfl (Nat.le_of_ble_eq_true rfl) (And.intro rfl (And.intro rfl trivial)) ?_
  unfold fX0_isKept
  refine am_iconst dX0_isKept_0 ic_0 ?_
  refine am_istore_n [some (am_r 0 0), some (am_i a1), some (am_i (0 : Int32)), none, none] dX0_isKept_1 rfl rfl (Nat.le_of_ble_eq_true rfl) rfl ?_
  refine am_joinR (S := Int32) 125 (fun s5 => [none, none, none, none, none]) (fun _ => []) (fun s5 => M) (fun s5 => ?_) (fun hx4 => ?_)
  · refine am_iconst dX0_isKept_125 ic_1 ?_
    exact am_zret (by decide) dX0_isKept_126 rfl rfl
  refine am_loop (σ := Int32) (ls' := fun s1 => [some (am_r 0 0), some (am_i a1), some (am_i s1), none, none]) (st' := fun _ => []) (M' := fun s1 => M) (fun rec2 hr3 s1 => ?_) _ _
  unfold fX0_isKept_L2
  refine am_iload_n dX0_isKept_2 rfl rfl ?_
  refine am_bipush dX0_isKept_3 bp_8 ?_
  refine am_icmp_geB (tgt := 125) dX0_isKept_5 rfl ?_ ?_
  · exact am_dr (hx4 s1) trivial
  · refine am_iconst dX0_isKept_8 ic_0 ?_
    refine am_istore_n [some (am_r 0 0), some (am_i a1), some (am_i s1), some (am_i (0 : Int32)), none] dX0_isKept_9 rfl rfl (Nat.le_of_ble_eq_true rfl) rfl ?_
    refine am_asR ?_
    refine am_joinR (S := Int32) 119 (fun s10 => [some (am_r 0 0), some (am_i a1), some (am_i s1), none, none]) (fun _ => []) (fun s10 => M) (fun s10 => ?_) (fun hx9 => ?_)
    · refine am_iinc [some (am_r 0 0), some (am_i a1), some (am_i (s1 + 1)), none, none] dX0_isKept_119 rfl ic_1 rfl (Nat.le_of_ble_eq_true rfl) rfl ?_
      refine am_goto (tgt := 2) dX0_isKept_122 rfl ?_
      exact hr3 (s1 + 1)
    refine am_loop (σ := Int32) (ls' := fun s6 => [some (am_r 0 0), some (am_i a1), some (am_i s1), some (am_i s6), none]) (st' := fun _ => []) (M' := fun s6 => M) (fun rec7 hr8 s6 => ?_) _ _
    unfold fX0_isKept_L10
    refine am_iload_n dX0_isKept_10 rfl rfl ?_
    refine am_bipush dX0_isKept_11 bp_8 ?_
    refine am_icmp_geB (tgt := 119) dX0_isKept_13 rfl ?_ ?_
    · exact am_dr (hx9 s6) (And.intro rfl (And.intro rfl (And.intro rfl trivial)))
    · refine am_iload_n dX0_isKept_16 rfl rfl ?_
      refine am_iload_n dX0_isKept_17 rfl rfl ?_
      refine am_cST lc_X0_221 (kX0_holds G M a1 s1) rfl rfl rfl rfl rfl dX0_isKept_18 ?_
      refine am_as ?_
      refine am_join (β := Int32) 58 (fun x11 => [some (am_r 0 0), some (am_i a1), some (am_i s1), some (am_i s6), none]) (fun x11 => [am_i x11]) (fun x11 => M) (fun x11 => ?_) (fun hm12 => ?_)
      · refine am_istore [some (am_r 0 0), some (am_i a1), some (am_i s1), some (am_i s6), some (am_i x11)] dX0_isKept_58 rfl (Nat.le_of_ble_eq_true rfl) rfl ?_
        refine am_iload dX0_isKept_60 rfl ?_
        refine am_if_eqB (tgt := 113) dX0_isKept_62 rfl ?_ ?_
        · refine am_iinc [some (am_r 0 0), some (am_i a1), some (am_i s1), some (am_i (s6 + 1)), some (am_i x11)] dX0_isKept_113 rfl ic_1 rfl (Nat.le_of_ble_eq_true rfl) rfl ?_
          refine am_goto (tgt := 10) dX0_isKept_116 rfl ?_
          exact am_dr (hr8 (s6 + 1)) (And.intro rfl (And.intro rfl (And.intro rfl (And.intro rfl trivial))))
        · refine am_aload_n dX0_isKept_65 rfl rfl ?_
          refine am_getO (o2 := 2) lf_X0_38 rfl (by decide) dX0_isKept_66 ?_
          refine am_get lf_X0_103 rfl rfl dX0_isKept_69 ?_
          refine am_aload_n dX0_isKept_72 rfl rfl ?_
          refine am_getO (o2 := 2) lf_X0_38 rfl (by decide) dX0_isKept_73 ?_
          refine am_getA lf_X0_127 rfl rfl dX0_isKept_76 ?_
          refine am_iload_n dX0_isKept_79 rfl rfl ?_
          refine am_as ?_
          refine am_iald (β := Unit) rfl dX0_isKept_80 (fun v15 => ?_)
          refine am_cST lc_X0_221 (kX0_holds G M (M 2 3 0) v15) rfl rfl rfl rfl rfl dX0_isKept_81 ?_
          refine am_if_eqB (tgt := 113) dX0_isKept_84 rfl ?_ ?_
          · refine am_iinc [some (am_r 0 0), some (am_i a1), some (am_i s1), some (am_i (s6 + 1)), some (am_i x11)] dX0_isKept_113 rfl ic_1 rfl (Nat.le_of_ble_eq_true rfl) rfl ?_
            refine am_goto (tgt := 10) dX0_isKept_116 rfl ?_
            exact am_dr (hr8 (s6 + 1)) (And.intro rfl (And.intro rfl (And.intro rfl (And.intro rfl trivial))))
          · refine am_aload_n dX0_isKept_87 rfl rfl ?_
            refine am_getO (o2 := 2) lf_X0_38 rfl (by decide) dX0_isKept_88 ?_
            refine am_getA lf_X0_130 rfl rfl dX0_isKept_91 ?_
            refine am_iload_n dX0_isKept_94 rfl rfl ?_
            refine am_as ?_
            refine am_iald (β := Unit) rfl dX0_isKept_95 (fun v16 => ?_)
            refine am_aload_n dX0_isKept_96 rfl rfl ?_
            refine am_getO (o2 := 2) lf_X0_38 rfl (by decide) dX0_isKept_97 ?_
            refine am_getA lf_X0_130 rfl rfl dX0_isKept_100 ?_
            refine am_iload_n dX0_isKept_103 rfl rfl ?_
            refine am_as ?_
            refine am_iald (β := Unit) rfl dX0_isKept_104 (fun v17 => ?_)
            refine am_cST lc_X0_239 (kX0_isThird G M v16 v17) rfl rfl rfl rfl rfl dX0_isKept_105 ?_
            refine am_if_eqB (tgt := 113) dX0_isKept_108 rfl ?_ ?_
            · refine am_iinc [some (am_r 0 0), some (am_i a1), some (am_i s1), some (am_i (s6 + 1)), some (am_i x11)] dX0_isKept_113 rfl ic_1 rfl (Nat.le_of_ble_eq_true rfl) rfl ?_
              refine am_goto (tgt := 10) dX0_isKept_116 rfl ?_
              exact am_dr (hr8 (s6 + 1)) (And.intro rfl (And.intro rfl (And.intro rfl (And.intro rfl trivial))))
            · refine am_iconst dX0_isKept_111 ic_0 ?_
              show am_R _ _ _ _ _ _ _ _ (some (0 : Int32))
              exact am_zret (by decide) dX0_isKept_112 rfl rfl
      refine am_if_eqB (tgt := 57) dX0_isKept_21 rfl ?_ ?_
      · refine am_iconst dX0_isKept_57 ic_0 ?_
        exact hm12 (0 : Int32)
      · refine am_iload_n dX0_isKept_24 rfl rfl ?_
        refine am_iload_n dX0_isKept_25 rfl rfl ?_
        refine am_cST lc_X0_221 (kX0_holds G M a1 s6) rfl rfl rfl rfl rfl dX0_isKept_26 ?_
        refine am_if_eqB (tgt := 57) dX0_isKept_29 rfl ?_ ?_
        · refine am_iconst dX0_isKept_57 ic_0 ?_
          exact hm12 (0 : Int32)
        · refine am_aload_n dX0_isKept_32 rfl rfl ?_
          refine am_getO (o2 := 2) lf_X0_38 rfl (by decide) dX0_isKept_33 ?_
          refine am_getA lf_X0_127 rfl rfl dX0_isKept_36 ?_
          refine am_iload_n dX0_isKept_39 rfl rfl ?_
          refine am_as ?_
          refine am_iald (β := Unit) rfl dX0_isKept_40 (fun v13 => ?_)
          refine am_aload_n dX0_isKept_41 rfl rfl ?_
          refine am_getO (o2 := 2) lf_X0_38 rfl (by decide) dX0_isKept_42 ?_
          refine am_getA lf_X0_127 rfl rfl dX0_isKept_45 ?_
          refine am_iload_n dX0_isKept_48 rfl rfl ?_
          refine am_as ?_
          refine am_iald (β := Unit) rfl dX0_isKept_49 (fun v14 => ?_)
          refine am_icmp_neB (tgt := 57) dX0_isKept_50 rfl ?_ ?_
          · refine am_iconst dX0_isKept_53 ic_1 ?_
            refine am_goto (tgt := 58) dX0_isKept_54 rfl ?_
            exact hm12 (1 : Int32)
          · refine am_iconst dX0_isKept_57 ic_0 ?_
            exact hm12 (0 : Int32)
