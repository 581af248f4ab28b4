/-! walks, printed by gen/decomp.py -/
set_option maxRecDepth 100000
def fX2_digit (a0 : Int32) (a1 : Int32) : Int32 :=
(if a1 = 0 then
(a0 / (100 : Int32))
 else
(if a1 = (1 : Int32) then
(jv_rem (a0 / (10 : Int32)) (10 : Int32))
 else
(jv_rem a0 (10 : Int32))))
set_option maxHeartbeats 4000000 in
theorem kX2_digit (G : am_G) (M : am_M) (a0 : Int32) (a1 : Int32) : am_C G 1 mX2_digit [am_i a0, am_i a1] M (fun r => (some (am_i r), M)) (some (fX2_digit a0 a1)) := by
  refine am_met (nL := 2) (ls0 := [some (am_i a0), some (am_i a1)]) (by decide) rfl (Nat.le_of_ble_eq_true rfl) (And.intro rfl (And.intro rfl trivial)) ?_
  unfold fX2_digit
  refine am_iload_n dX2_digit_0 rfl rfl ?_
  refine am_if_neS (tgt := 11) dX2_digit_1 rfl ?_ ?_
  · refine am_iload_n dX2_digit_4 rfl rfl ?_
    refine am_bipush dX2_digit_5 bp_100 ?_
    refine am_idiv dX2_digit_7 (by decide) ?_
    refine am_goto (tgt := 30) dX2_digit_8 rfl ?_
    exact am_iret dX2_digit_30 rfl rfl
  · refine am_iload_n dX2_digit_11 rfl rfl ?_
    refine am_iconst dX2_digit_12 ic_1 ?_
    refine am_icmp_neS (tgt := 26) dX2_digit_13 rfl ?_ ?_
    · refine am_iload_n dX2_digit_16 rfl rfl ?_
      refine am_bipush dX2_digit_17 bp_10 ?_
      refine am_idiv dX2_digit_19 (by decide) ?_
      refine am_bipush dX2_digit_20 bp_10 ?_
      refine am_irem dX2_digit_22 (by decide) ?_
      refine am_goto (tgt := 30) dX2_digit_23 rfl ?_
      exact am_iret dX2_digit_30 rfl rfl
    · refine am_iload_n dX2_digit_26 rfl rfl ?_
      refine am_bipush dX2_digit_27 bp_10 ?_
      refine am_irem dX2_digit_29 (by decide) ?_
      exact am_iret dX2_digit_30 rfl rfl
def fX2_rested_L6 (a0 : Int32) (a1 : Int32) (a2 : Int32) (a3 : Int32) (rec1 : (Int32 × Int32) → Option (Int32 × Int32)) (s2 : (Int32 × Int32)) : Option (Int32 × Int32) :=
(if (3 : Int32) ≤ s2.2 then
some (s2.1, s2.2)
 else
(Option.bind (if s2.2 = a1 then
some a3
 else
(if ((fX2_digit a0 s2.2) - a2) ≤ 0 then
some (0 : Int32)
 else
some ((fX2_digit a0 s2.2) - a2))) fun (x3 : Int32) =>
rec1 ((((10 : Int32) * s2.1) + x3), (s2.2 + 1))))
def fX2_rested (a0 : Int32) (a1 : Int32) (a2 : Int32) (a3 : Int32) : Option Int32 :=
(Option.bind (am_it (fX2_rested_L6 a0 a1 a2 a3) am_fuel ((0 : Int32), (0 : Int32))) fun (s5 : (Int32 × Int32)) =>
some s5.1)
set_option maxHeartbeats 4000000 in
theorem kX2_rested (G : am_G) (M : am_M) (a0 : Int32) (a1 : Int32) (a2 : Int32) (a3 : Int32) : am_C G 2 mX2_rested [am_i a0, am_i a1, am_i a2, am_i a3] M (fun r => (some (am_i r), M)) (fX2_rested a0 a1 a2 a3) := by
  refine am_met (nL := 7) (ls0 := [some (am_i a0), some (am_i a1), some (am_i a2), some (am_i a3), none, none, none]) (by decide) rfl (Nat.le_of_ble_eq_true rfl) (And.intro rfl (And.intro rfl (And.intro rfl (And.intro rfl trivial)))) ?_
  unfold fX2_rested
  refine am_iconst dX2_rested_0 ic_0 ?_
  refine am_istore [some (am_i a0), some (am_i a1), some (am_i a2), some (am_i a3), some (am_i (0 : Int32)), none, none] dX2_rested_1 rfl (Nat.le_of_ble_eq_true rfl) rfl ?_
  refine am_iconst dX2_rested_3 ic_0 ?_
  refine am_istore [some (am_i a0), some (am_i a1), some (am_i a2), some (am_i a3), some (am_i (0 : Int32)), some (am_i (0 : Int32)), none] dX2_rested_4 rfl (Nat.le_of_ble_eq_true rfl) rfl ?_
  refine am_join (β := (Int32 × Int32)) 57 (fun s5 => [none, none, none, none, some (am_i s5.1), none, none]) (fun _ => []) (fun s5 => M) (fun s5 => ?_) (fun hx4 => ?_)
  · refine am_iload dX2_rested_57 rfl ?_
    exact am_iret dX2_rested_59 rfl rfl
  refine am_loop (σ := (Int32 × Int32)) (ls' := fun s1 => [some (am_i a0), some (am_i a1), some (am_i a2), some (am_i a3), some (am_i s1.1), some (am_i s1.2), none]) (st' := fun _ => []) (M' := fun s1 => M) (fun rec2 hr3 s1 => ?_) _ _
  unfold fX2_rested_L6
  refine am_iload dX2_rested_6 rfl ?_
  refine am_iconst dX2_rested_8 ic_3 ?_
  refine am_icmp_geB (tgt := 57) dX2_rested_9 rfl ?_ ?_
  · exact am_dr (hx4 (s1.1, s1.2)) (And.intro rfl trivial)
  · refine am_iload_n dX2_rested_12 rfl rfl ?_
    refine am_iload dX2_rested_13 rfl ?_
    refine am_cST lc_X2_149 (kX2_digit G M a0 s1.2) rfl rfl rfl rfl rfl dX2_rested_15 ?_
    refine am_iload_n dX2_rested_18 rfl rfl ?_
    refine am_isub dX2_rested_19 ?_
    refine am_istore [some (am_i a0), some (am_i a1), some (am_i a2), some (am_i a3), some (am_i s1.1), some (am_i s1.2), some (am_i ((fX2_digit a0 s1.2) - a2))] dX2_rested_20 rfl (Nat.le_of_ble_eq_true rfl) rfl ?_
    refine am_bipush dX2_rested_22 bp_10 ?_
    refine am_iload dX2_rested_24 rfl ?_
    refine am_imul dX2_rested_26 ?_
    refine am_iload dX2_rested_27 rfl ?_
    refine am_iload_n dX2_rested_29 rfl rfl ?_
    refine am_as ?_
    refine am_join (β := Int32) 48 (fun x6 => [some (am_i a0), some (am_i a1), some (am_i a2), some (am_i a3), some (am_i s1.1), some (am_i s1.2), some (am_i ((fX2_digit a0 s1.2) - a2))]) (fun x6 => [am_i x6, am_i ((10 : Int32) * s1.1)]) (fun x6 => M) (fun x6 => ?_) (fun hm7 => ?_)
    · refine am_iadd dX2_rested_48 ?_
      refine am_istore [some (am_i a0), some (am_i a1), some (am_i a2), some (am_i a3), some (am_i (((10 : Int32) * s1.1) + x6)), some (am_i s1.2), some (am_i ((fX2_digit a0 s1.2) - a2))] dX2_rested_49 rfl (Nat.le_of_ble_eq_true rfl) rfl ?_
      refine am_iinc [some (am_i a0), some (am_i a1), some (am_i a2), some (am_i a3), some (am_i (((10 : Int32) * s1.1) + x6)), some (am_i (s1.2 + 1)), some (am_i ((fX2_digit a0 s1.2) - a2))] dX2_rested_51 rfl ic_1 rfl (Nat.le_of_ble_eq_true rfl) rfl ?_
      refine am_goto (tgt := 6) dX2_rested_54 rfl ?_
      exact am_dr (hr3 ((((10 : Int32) * s1.1) + x6), (s1.2 + 1))) (And.intro rfl (And.intro rfl (And.intro rfl (And.intro rfl (And.intro rfl (And.intro rfl trivial))))))
    refine am_icmp_neB (tgt := 37) dX2_rested_30 rfl ?_ ?_
    · refine am_iload_n dX2_rested_33 rfl rfl ?_
      refine am_goto (tgt := 48) dX2_rested_34 rfl ?_
      exact hm7 a3
    · refine am_iload dX2_rested_37 rfl ?_
      refine am_if_leB (tgt := 47) dX2_rested_39 rfl ?_ ?_
      · refine am_iconst dX2_rested_47 ic_0 ?_
        exact hm7 (0 : Int32)
      · refine am_iload dX2_rested_42 rfl ?_
        refine am_goto (tgt := 48) dX2_rested_44 rfl ?_
        exact hm7 ((fX2_digit a0 s1.2) - a2)
def fX2_heldBy_L81 (a2 : Int32) (a3 : Int32) (s1 : (Int32 × Int32 × am_M)) (s2 : (Int32 × Int32 × am_M)) (rec3 : (Int32 × Int32 × am_M) → Option (Int32 × Int32 × am_M)) (s4 : (Int32 × Int32 × am_M)) : Option (Int32 × Int32 × am_M) :=
(if (3 : Int32) ≤ s4.2.1 then
some (s4.1, s4.2.1, s4.2.2)
 else
(Option.bind (am_rd ((s4.2.2) 1 19) 10000 (((1000 : Int32) * (jv_rem s1.2.1 (10 : Int32))) + s2.2.1)) fun v5 =>
(if v5 = 0 then
some (s4.1, s4.2.1, s4.2.2)
 else
(Option.bind (if (fX2_digit s2.2.1 s4.2.1) = 0 then
(Option.bind (if (s1.2.1 + (fX2_digit a2 s4.2.1)) ≤ (99 : Int32) then
some (s1.2.1 + (fX2_digit a2 s4.2.1))
 else
some (99 : Int32)) fun (x6 : Int32) =>
(Option.bind (fX2_rested s2.2.1 s4.2.1 (fX2_digit a2 s4.2.1) (fX2_digit a3 s4.2.1)) fun v7 =>
(Option.bind (am_wr s4.2.2 1 19 10000 (((1000 : Int32) * (jv_rem (s1.2.1 + (fX2_digit a2 s4.2.1)) (10 : Int32))) + v7) (vp_nar .boolean (1 : Int32))) fun M8 =>
(Option.bind (if x6 ≤ s4.1 then
some s4.1
 else
some x6) fun (x9 : Int32) =>
some (x9, M8)))))
 else
some (s4.1, s4.2.2)) fun (x10 : (Int32 × am_M)) =>
rec3 (x10.1, (s4.2.1 + 1), x10.2)))))
def fX2_heldBy_L70 (a2 : Int32) (a3 : Int32) (s1 : (Int32 × Int32 × am_M)) (rec2 : (Int32 × Int32 × am_M) → Option (Int32 × Int32 × am_M)) (s3 : (Int32 × Int32 × am_M)) : Option (Int32 × Int32 × am_M) :=
(if (1000 : Int32) ≤ s3.2.1 then
some (s3.1, s3.2.1, s3.2.2)
 else
(Option.bind (am_it (fX2_heldBy_L81 a2 a3 s1 s3) am_fuel (s3.1, (0 : Int32), s3.2.2)) fun (s4 : (Int32 × Int32 × am_M)) =>
(Option.bind (am_wr s4.2.2 1 19 10000 (((1000 : Int32) * (jv_rem s1.2.1 (10 : Int32))) + s3.2.1) (vp_nar .boolean (0 : Int32))) fun M5 =>
rec2 (s4.1, (s3.2.1 + 1), M5))))
def fX2_heldBy_L60 (a2 : Int32) (a3 : Int32) (rec1 : (Int32 × Int32 × am_M) → Option (Int32 × Int32 × am_M)) (s2 : (Int32 × Int32 × am_M)) : Option (Int32 × Int32 × am_M) :=
(if (99 : Int32) ≤ s2.2.1 then
some (s2.1, s2.2.1, s2.2.2)
 else
(Option.bind (am_it (fX2_heldBy_L70 a2 a3 s2) am_fuel (s2.1, (0 : Int32), s2.2.2)) fun (s3 : (Int32 × Int32 × am_M)) =>
rec1 (s3.1, (s2.2.1 + 1), s3.2.2)))
def fX2_heldBy_L3  (rec1 : (Int32 × am_M) → Option (Int32 × am_M)) (s2 : (Int32 × am_M)) : Option (Int32 × am_M) :=
(if (10000 : Int32) ≤ s2.1 then
some (s2.1, s2.2)
 else
(Option.bind (am_wr s2.2 1 19 10000 s2.1 (vp_nar .boolean (0 : Int32))) fun M3 =>
rec1 ((s2.1 + 1), M3)))
def fX2_heldBy (M : am_M) (a1 : Int32) (a2 : Int32) (a3 : Int32) : Option (Int32 × am_M) :=
(Option.bind (am_it fX2_heldBy_L3 am_fuel ((0 : Int32), M)) fun (s5 : (Int32 × am_M)) =>
(Option.bind (fX2_rested (0 : Int32) a1 (fX2_digit a2 a1) (fX2_digit a3 a1)) fun v7 =>
(Option.bind (am_wr s5.2 1 19 10000 (((1000 : Int32) * (fX2_digit a2 a1)) + v7) (vp_nar .boolean (1 : Int32))) fun M8 =>
(Option.bind (am_it (fX2_heldBy_L60 a2 a3) am_fuel ((fX2_digit a2 a1), (1 : Int32), M8)) fun (s13 : (Int32 × Int32 × am_M)) =>
some (s13.1, s13.2.2)))))
set_option maxHeartbeats 4000000 in
theorem kX2_heldBy (G : am_G) (M : am_M) (a1 : Int32) (a2 : Int32) (a3 : Int32) : am_C G 3 mX2_heldBy [am_r 1 0, am_i a1, am_i a2, am_i a3] M (fun r => (some (am_i r.1), r.2)) (fX2_heldBy M a1 a2 a3) := by
  refine am_met (nL := 10) (ls0 := [some (am_r 1 0), some (am_i a1), some (am_i a2), some (am_i a3), none, none, none, none, none, none]) (by decide) rfl (Nat.le_of_ble_eq_true rfl) (And.intro rfl (And.intro rfl (And.intro rfl (And.intro rfl trivial)))) ?_
  unfold fX2_heldBy
  refine am_iconst dX2_heldBy_0 ic_0 ?_
  refine am_istore [some (am_r 1 0), some (am_i a1), some (am_i a2), some (am_i a3), some (am_i (0 : Int32)), none, none, none, none, none] dX2_heldBy_1 rfl (Nat.le_of_ble_eq_true rfl) rfl ?_
  refine am_join (β := (Int32 × am_M)) 25 (fun s5 => [some (am_r 1 0), some (am_i a1), some (am_i a2), some (am_i a3), none, none, none, none, none, none]) (fun _ => []) (fun s5 => s5.2) (fun s5 => ?_) (fun hx4 => ?_)
  · refine am_iload_n dX2_heldBy_25 rfl rfl ?_
    refine am_iload_n dX2_heldBy_26 rfl rfl ?_
    refine am_cST lc_X2_149 (kX2_digit G s5.2 a2 a1) rfl rfl rfl rfl rfl dX2_heldBy_27 ?_
    refine am_istore [some (am_r 1 0), some (am_i a1), some (am_i a2), some (am_i a3), some (am_i (fX2_digit a2 a1)), none, none, none, none, none] dX2_heldBy_30 rfl (Nat.le_of_ble_eq_true rfl) rfl ?_
    refine am_aload_n dX2_heldBy_32 rfl rfl ?_
    refine am_getA lf_X2_43 rfl rfl dX2_heldBy_33 ?_
    refine am_sipush dX2_heldBy_36 sp_1000 ?_
    refine am_iload dX2_heldBy_39 rfl ?_
    refine am_imul dX2_heldBy_41 ?_
    refine am_iconst dX2_heldBy_42 ic_0 ?_
    refine am_iload_n dX2_heldBy_43 rfl rfl ?_
    refine am_iload dX2_heldBy_44 rfl ?_
    refine am_iload_n dX2_heldBy_46 rfl rfl ?_
    refine am_iload_n dX2_heldBy_47 rfl rfl ?_
    refine am_cST lc_X2_149 (kX2_digit G s5.2 a3 a1) rfl rfl rfl rfl rfl dX2_heldBy_48 ?_
    refine am_cSI lc_X2_152 (kX2_rested G s5.2 (0 : Int32) a1 (fX2_digit a2 a1) (fX2_digit a3 a1)) rfl rfl rfl rfl rfl dX2_heldBy_51 (fun v7 => ?_)
    refine am_iadd dX2_heldBy_54 ?_
    refine am_iconst dX2_heldBy_55 ic_1 ?_
    refine am_zast rfl dX2_heldBy_56 (fun M8 => ?_)
    refine am_iconst dX2_heldBy_57 ic_1 ?_
    refine am_istore [some (am_r 1 0), some (am_i a1), some (am_i a2), some (am_i a3), some (am_i (fX2_digit a2 a1)), some (am_i (1 : Int32)), none, none, none, none] dX2_heldBy_58 rfl (Nat.le_of_ble_eq_true rfl) rfl ?_
    refine am_join (β := (Int32 × Int32 × am_M)) 233 (fun s13 => [none, none, none, none, some (am_i s13.1), none, none, none, none, none]) (fun _ => []) (fun s13 => s13.2.2) (fun s13 => ?_) (fun hx12 => ?_)
    · refine am_iload dX2_heldBy_233 rfl ?_
      exact am_iret dX2_heldBy_235 rfl rfl
    refine am_drop (ls' := [some (am_r 1 0), none, some (am_i a2), some (am_i a3), some (am_i (fX2_digit a2 a1)), some (am_i (1 : Int32)), none, none, none, none]) (And.intro rfl (And.intro rfl (And.intro rfl (And.intro rfl (And.intro rfl trivial))))) ?_
    refine am_loop (σ := (Int32 × Int32 × am_M)) (ls' := fun s9 => [some (am_r 1 0), none, some (am_i a2), some (am_i a3), some (am_i s9.1), some (am_i s9.2.1), none, none, none, none]) (st' := fun _ => []) (M' := fun s9 => s9.2.2) (fun rec10 hr11 s9 => ?_) _ _
    unfold fX2_heldBy_L60
    refine am_iload dX2_heldBy_60 rfl ?_
    refine am_bipush dX2_heldBy_62 bp_99 ?_
    refine am_icmp_geB (tgt := 233) dX2_heldBy_64 rfl ?_ ?_
    · exact am_dr (hx12 (s9.1, s9.2.1, s9.2.2)) (And.intro rfl trivial)
    · refine am_iconst dX2_heldBy_67 ic_0 ?_
      refine am_istore [some (am_r 1 0), none, some (am_i a2), some (am_i a3), some (am_i s9.1), some (am_i s9.2.1), some (am_i (0 : Int32)), none, none, none] dX2_heldBy_68 rfl (Nat.le_of_ble_eq_true rfl) rfl ?_
      refine am_as ?_
      refine am_join (β := (Int32 × Int32 × am_M)) 227 (fun s18 => [some (am_r 1 0), none, some (am_i a2), some (am_i a3), some (am_i s18.1), some (am_i s9.2.1), none, none, none, none]) (fun _ => []) (fun s18 => s18.2.2) (fun s18 => ?_) (fun hx17 => ?_)
      · refine am_iinc [some (am_r 1 0), none, some (am_i a2), some (am_i a3), some (am_i s18.1), some (am_i (s9.2.1 + 1)), none, none, none, none] dX2_heldBy_227 rfl ic_1 rfl (Nat.le_of_ble_eq_true rfl) rfl ?_
        refine am_goto (tgt := 60) dX2_heldBy_230 rfl ?_
        exact hr11 (s18.1, (s9.2.1 + 1), s18.2.2)
      refine am_loop (σ := (Int32 × Int32 × am_M)) (ls' := fun s14 => [some (am_r 1 0), none, some (am_i a2), some (am_i a3), some (am_i s14.1), some (am_i s9.2.1), some (am_i s14.2.1), none, none, none]) (st' := fun _ => []) (M' := fun s14 => s14.2.2) (fun rec15 hr16 s14 => ?_) _ _
      unfold fX2_heldBy_L70
      refine am_iload dX2_heldBy_70 rfl ?_
      refine am_sipush dX2_heldBy_72 sp_1000 ?_
      refine am_icmp_geB (tgt := 227) dX2_heldBy_75 rfl ?_ ?_
      · exact am_dr (hx17 (s14.1, s14.2.1, s14.2.2)) (And.intro rfl (And.intro rfl (And.intro rfl (And.intro rfl (And.intro rfl trivial)))))
      · refine am_iconst dX2_heldBy_78 ic_0 ?_
        refine am_istore [some (am_r 1 0), none, some (am_i a2), some (am_i a3), some (am_i s14.1), some (am_i s9.2.1), some (am_i s14.2.1), some (am_i (0 : Int32)), none, none] dX2_heldBy_79 rfl (Nat.le_of_ble_eq_true rfl) rfl ?_
        refine am_as ?_
        refine am_join (β := (Int32 × Int32 × am_M)) 203 (fun s23 => [some (am_r 1 0), none, some (am_i a2), some (am_i a3), some (am_i s23.1), some (am_i s9.2.1), some (am_i s14.2.1), none, none, none]) (fun _ => []) (fun s23 => s23.2.2) (fun s23 => ?_) (fun hx22 => ?_)
        · refine am_aload_n dX2_heldBy_203 rfl rfl ?_
          refine am_getA lf_X2_43 rfl rfl dX2_heldBy_204 ?_
          refine am_sipush dX2_heldBy_207 sp_1000 ?_
          refine am_iload dX2_heldBy_210 rfl ?_
          refine am_bipush dX2_heldBy_212 bp_10 ?_
          refine am_irem dX2_heldBy_214 (by decide) ?_
          refine am_imul dX2_heldBy_215 ?_
          refine am_iload dX2_heldBy_216 rfl ?_
          refine am_iadd dX2_heldBy_218 ?_
          refine am_iconst dX2_heldBy_219 ic_0 ?_
          refine am_as ?_
          refine am_zast rfl dX2_heldBy_220 (fun M33 => ?_)
          refine am_iinc [some (am_r 1 0), none, some (am_i a2), some (am_i a3), some (am_i s23.1), some (am_i s9.2.1), some (am_i (s14.2.1 + 1)), none, none, none] dX2_heldBy_221 rfl ic_1 rfl (Nat.le_of_ble_eq_true rfl) rfl ?_
          refine am_goto (tgt := 70) dX2_heldBy_224 rfl ?_
          exact hr16 (s23.1, (s14.2.1 + 1), M33)
        refine am_loop (σ := (Int32 × Int32 × am_M)) (ls' := fun s19 => [some (am_r 1 0), none, some (am_i a2), some (am_i a3), some (am_i s19.1), some (am_i s9.2.1), some (am_i s14.2.1), some (am_i s19.2.1), none, none]) (st' := fun _ => []) (M' := fun s19 => s19.2.2) (fun rec20 hr21 s19 => ?_) _ _
        unfold fX2_heldBy_L81
        refine am_iload dX2_heldBy_81 rfl ?_
        refine am_iconst dX2_heldBy_83 ic_3 ?_
        refine am_icmp_geB (tgt := 203) dX2_heldBy_84 rfl ?_ ?_
        · exact am_dr (hx22 (s19.1, s19.2.1, s19.2.2)) (And.intro rfl (And.intro rfl (And.intro rfl (And.intro rfl (And.intro rfl (And.intro rfl trivial))))))
        · refine am_aload_n dX2_heldBy_87 rfl rfl ?_
          refine am_getA lf_X2_43 rfl rfl dX2_heldBy_88 ?_
          refine am_sipush dX2_heldBy_91 sp_1000 ?_
          refine am_iload dX2_heldBy_94 rfl ?_
          refine am_bipush dX2_heldBy_96 bp_10 ?_
          refine am_irem dX2_heldBy_98 (by decide) ?_
          refine am_imul dX2_heldBy_99 ?_
          refine am_iload dX2_heldBy_100 rfl ?_
          refine am_iadd dX2_heldBy_102 ?_
          refine am_as ?_
          refine am_zald rfl dX2_heldBy_103 (fun v24 => ?_)
          refine am_if_eqB (tgt := 203) dX2_heldBy_104 rfl ?_ ?_
          · exact am_dr (hx22 (s19.1, s19.2.1, s19.2.2)) (And.intro rfl (And.intro rfl (And.intro rfl (And.intro rfl (And.intro rfl (And.intro rfl trivial))))))
          · refine am_iload dX2_heldBy_107 rfl ?_
            refine am_iload dX2_heldBy_109 rfl ?_
            refine am_cST lc_X2_149 (kX2_digit G s19.2.2 s14.2.1 s19.2.1) rfl rfl rfl rfl rfl dX2_heldBy_111 ?_
            refine am_as ?_
            refine am_join (β := (Int32 × am_M)) 197 (fun x25 => [some (am_r 1 0), none, some (am_i a2), some (am_i a3), some (am_i x25.1), some (am_i s9.2.1), some (am_i s14.2.1), some (am_i s19.2.1), none, none]) (fun x25 => []) (fun x25 => x25.2) (fun x25 => ?_) (fun hm26 => ?_)
            · refine am_iinc [some (am_r 1 0), none, some (am_i a2), some (am_i a3), some (am_i x25.1), some (am_i s9.2.1), some (am_i s14.2.1), some (am_i (s19.2.1 + 1)), none, none] dX2_heldBy_197 rfl ic_1 rfl (Nat.le_of_ble_eq_true rfl) rfl ?_
              refine am_goto (tgt := 81) dX2_heldBy_200 rfl ?_
              exact hr21 (x25.1, (s19.2.1 + 1), x25.2)
            refine am_if_neB (tgt := 197) dX2_heldBy_114 rfl ?_ ?_
            · refine am_iload_n dX2_heldBy_117 rfl rfl ?_
              refine am_iload dX2_heldBy_118 rfl ?_
              refine am_cST lc_X2_149 (kX2_digit G s19.2.2 a2 s19.2.1) rfl rfl rfl rfl rfl dX2_heldBy_120 ?_
              refine am_istore [some (am_r 1 0), none, some (am_i a2), some (am_i a3), some (am_i s19.1), some (am_i s9.2.1), some (am_i s14.2.1), some (am_i s19.2.1), some (am_i (fX2_digit a2 s19.2.1)), none] dX2_heldBy_123 rfl (Nat.le_of_ble_eq_true rfl) rfl ?_
              refine am_iload dX2_heldBy_125 rfl ?_
              refine am_iload dX2_heldBy_127 rfl ?_
              refine am_iadd dX2_heldBy_129 ?_
              refine am_bipush dX2_heldBy_130 bp_99 ?_
              refine am_as ?_
              refine am_join (β := Int32) 145 (fun x27 => [some (am_r 1 0), none, some (am_i a2), some (am_i a3), some (am_i s19.1), some (am_i s9.2.1), some (am_i s14.2.1), some (am_i s19.2.1), some (am_i (fX2_digit a2 s19.2.1)), none]) (fun x27 => [am_i x27]) (fun x27 => s19.2.2) (fun x27 => ?_) (fun hm28 => ?_)
              · refine am_istore [some (am_r 1 0), none, some (am_i a2), some (am_i a3), some (am_i s19.1), some (am_i s9.2.1), some (am_i s14.2.1), some (am_i s19.2.1), some (am_i (fX2_digit a2 s19.2.1)), some (am_i x27)] dX2_heldBy_145 rfl (Nat.le_of_ble_eq_true rfl) rfl ?_
                refine am_aload_n dX2_heldBy_147 rfl rfl ?_
                refine am_getA lf_X2_43 rfl rfl dX2_heldBy_148 ?_
                refine am_sipush dX2_heldBy_151 sp_1000 ?_
                refine am_iload dX2_heldBy_154 rfl ?_
                refine am_iload dX2_heldBy_156 rfl ?_
                refine am_iadd dX2_heldBy_158 ?_
                refine am_bipush dX2_heldBy_159 bp_10 ?_
                refine am_irem dX2_heldBy_161 (by decide) ?_
                refine am_imul dX2_heldBy_162 ?_
                refine am_iload dX2_heldBy_163 rfl ?_
                refine am_iload dX2_heldBy_165 rfl ?_
                refine am_iload dX2_heldBy_167 rfl ?_
                refine am_iload_n dX2_heldBy_169 rfl rfl ?_
                refine am_iload dX2_heldBy_170 rfl ?_
                refine am_cST lc_X2_149 (kX2_digit G s19.2.2 a3 s19.2.1) rfl rfl rfl rfl rfl dX2_heldBy_172 ?_
                refine am_as ?_
                refine am_cSI lc_X2_152 (kX2_rested G s19.2.2 s14.2.1 s19.2.1 (fX2_digit a2 s19.2.1) (fX2_digit a3 s19.2.1)) rfl rfl rfl rfl rfl dX2_heldBy_175 (fun v29 => ?_)
                refine am_iadd dX2_heldBy_178 ?_
                refine am_iconst dX2_heldBy_179 ic_1 ?_
                refine am_as ?_
                refine am_zast rfl dX2_heldBy_180 (fun M30 => ?_)
                refine am_iload dX2_heldBy_181 rfl ?_
                refine am_iload dX2_heldBy_183 rfl ?_
                refine am_as ?_
                refine am_join (β := Int32) 195 (fun x31 => [some (am_r 1 0), none, some (am_i a2), some (am_i a3), some (am_i s19.1), some (am_i s9.2.1), some (am_i s14.2.1), some (am_i s19.2.1), some (am_i (fX2_digit a2 s19.2.1)), some (am_i x27)]) (fun x31 => [am_i x31]) (fun x31 => M30) (fun x31 => ?_) (fun hm32 => ?_)
                · refine am_istore [some (am_r 1 0), none, some (am_i a2), some (am_i a3), some (am_i x31), some (am_i s9.2.1), some (am_i s14.2.1), some (am_i s19.2.1), some (am_i (fX2_digit a2 s19.2.1)), some (am_i x27)] dX2_heldBy_195 rfl (Nat.le_of_ble_eq_true rfl) rfl ?_
                  exact am_dr (hm26 (x31, M30)) (And.intro rfl (And.intro rfl (And.intro rfl (And.intro rfl (And.intro rfl (And.intro rfl (And.intro rfl trivial)))))))
                refine am_icmp_leB (tgt := 193) dX2_heldBy_185 rfl ?_ ?_
                · refine am_iload dX2_heldBy_193 rfl ?_
                  exact hm32 s19.1
                · refine am_iload dX2_heldBy_188 rfl ?_
                  refine am_goto (tgt := 195) dX2_heldBy_190 rfl ?_
                  exact hm32 x27
              refine am_icmp_leB (tgt := 140) dX2_heldBy_132 rfl ?_ ?_
              · refine am_iload dX2_heldBy_140 rfl ?_
                refine am_iload dX2_heldBy_142 rfl ?_
                refine am_iadd dX2_heldBy_144 ?_
                exact hm28 (s9.2.1 + (fX2_digit a2 s19.2.1))
              · refine am_bipush dX2_heldBy_135 bp_99 ?_
                refine am_goto (tgt := 145) dX2_heldBy_137 rfl ?_
                exact hm28 (99 : Int32)
            · exact hm26 (s19.1, s19.2.2)
  refine am_loop (σ := (Int32 × am_M)) (ls' := fun s1 => [some (am_r 1 0), some (am_i a1), some (am_i a2), some (am_i a3), some (am_i s1.1), none, none, none, none, none]) (st' := fun _ => []) (M' := fun s1 => s1.2) (fun rec2 hr3 s1 => ?_) _ _
  unfold fX2_heldBy_L3
  refine am_iload dX2_heldBy_3 rfl ?_
  refine am_sipush dX2_heldBy_5 sp_10000 ?_
  refine am_icmp_geB (tgt := 25) dX2_heldBy_8 rfl ?_ ?_
  · exact am_dr (hx4 (s1.1, s1.2)) (And.intro rfl (And.intro rfl (And.intro rfl (And.intro rfl trivial))))
  · refine am_aload_n dX2_heldBy_11 rfl rfl ?_
    refine am_getA lf_X2_43 rfl rfl dX2_heldBy_12 ?_
    refine am_iload dX2_heldBy_15 rfl ?_
    refine am_iconst dX2_heldBy_17 ic_0 ?_
    refine am_as ?_
    refine am_zast rfl dX2_heldBy_18 (fun M6 => ?_)
    refine am_iinc [some (am_r 1 0), some (am_i a1), some (am_i a2), some (am_i a3), some (am_i (s1.1 + 1)), none, none, none, none, none] dX2_heldBy_19 rfl ic_1 rfl (Nat.le_of_ble_eq_true rfl) rfl ?_
    refine am_goto (tgt := 3) dX2_heldBy_22 rfl ?_
    exact hr3 ((s1.1 + 1), M6)
def fX2_hold_L61 (a1 : Int32) (a2 : Int32) (rec1 : (Int32 × Int32 × Int32 × am_M) → Option (Int32 × Int32 × Int32 × am_M)) (s2 : (Int32 × Int32 × Int32 × am_M)) : Option (Int32 × Int32 × Int32 × am_M) :=
(if (3 : Int32) ≤ s2.2.2.1 then
some (s2.1, s2.2.1, s2.2.2.1, s2.2.2.2)
 else
(Option.bind (fX2_heldBy s2.2.2.2 s2.2.2.1 a1 a2) fun r3 =>
(Option.bind (if r3.1 ≤ s2.1 then
some s2.2.1
 else
some s2.2.2.1) fun (x4 : Int32) =>
(Option.bind (if r3.1 ≤ s2.1 then
some s2.1
 else
some r3.1) fun (x5 : Int32) =>
rec1 (x5, x4, (s2.2.2.1 + 1), r3.2)))))
def fX2_hold (M : am_M) (a1 : Int32) (a2 : Int32) (a3 : Int32) : Option (Int32 × am_M) :=
(if (fX2_in a1 (111 : Int32) (999 : Int32)) = 0 then
some ((-2 : Int32), M)
 else
(if (jv_rem a1 (10 : Int32)) = 0 then
some ((-2 : Int32), M)
 else
(if (jv_rem (a1 / (10 : Int32)) (10 : Int32)) = 0 then
some ((-2 : Int32), M)
 else
(if (fX2_in a2 (0 : Int32) (999 : Int32)) = 0 then
some ((-2 : Int32), M)
 else
(if (fX2_in a3 (0 : Int32) (1 : Int32)) = 0 then
some ((-2 : Int32), M)
 else
(Option.bind (am_it (fX2_hold_L61 a1 a2) am_fuel ((0 : Int32), (0 : Int32), (0 : Int32), M)) fun (s5 : (Int32 × Int32 × Int32 × am_M)) =>
(if a3 = 0 then
some (s5.1, s5.2.2.2)
 else
some (s5.2.1, s5.2.2.2))))))))
set_option maxHeartbeats 4000000 in
theorem kX2_hold (G : am_G) (M : am_M) (a1 : Int32) (a2 : Int32) (a3 : Int32) : am_C G 4 mX2_hold [am_r 1 0, am_i a1, am_i a2, am_i a3] M (fun r => (some (am_i r.1), r.2)) (fX2_hold M a1 a2 a3) := by
  refine am_met (nL := 8) (ls0 := [some (am_r 1 0), some (am_i a1), some (am_i a2), some (am_i a3), none, none, none, none]) (by decide) rfl (Nat.le_of_ble_eq_true rfl) (And.intro rfl (And.intro rfl (And.intro rfl (And.intro rfl trivial)))) ?_
  unfold fX2_hold
  refine am_iload_n dX2_hold_0 rfl rfl ?_
  refine am_bipush dX2_hold_1 bp_111 ?_
  refine am_sipush dX2_hold_3 sp_999 ?_
  refine am_cST lc_X2_59 (kX2_in G M a1 (111 : Int32) (999 : Int32)) rfl rfl rfl rfl rfl dX2_hold_6 ?_
  refine am_if_eq (tgt := 49) dX2_hold_9 rfl ?_ ?_
  · refine am_bipush dX2_hold_49 bp_m2 ?_
    exact am_iret dX2_hold_51 rfl rfl
  · refine am_iload_n dX2_hold_12 rfl rfl ?_
    refine am_bipush dX2_hold_13 bp_10 ?_
    refine am_irem dX2_hold_15 (by decide) ?_
    refine am_if_eq (tgt := 49) dX2_hold_16 rfl ?_ ?_
    · refine am_bipush dX2_hold_49 bp_m2 ?_
      exact am_iret dX2_hold_51 rfl rfl
    · refine am_iload_n dX2_hold_19 rfl rfl ?_
      refine am_bipush dX2_hold_20 bp_10 ?_
      refine am_idiv dX2_hold_22 (by decide) ?_
      refine am_bipush dX2_hold_23 bp_10 ?_
      refine am_irem dX2_hold_25 (by decide) ?_
      refine am_if_eq (tgt := 49) dX2_hold_26 rfl ?_ ?_
      · refine am_bipush dX2_hold_49 bp_m2 ?_
        exact am_iret dX2_hold_51 rfl rfl
      · refine am_iload_n dX2_hold_29 rfl rfl ?_
        refine am_iconst dX2_hold_30 ic_0 ?_
        refine am_sipush dX2_hold_31 sp_999 ?_
        refine am_cST lc_X2_59 (kX2_in G M a2 (0 : Int32) (999 : Int32)) rfl rfl rfl rfl rfl dX2_hold_34 ?_
        refine am_if_eq (tgt := 49) dX2_hold_37 rfl ?_ ?_
        · refine am_bipush dX2_hold_49 bp_m2 ?_
          exact am_iret dX2_hold_51 rfl rfl
        · refine am_iload_n dX2_hold_40 rfl rfl ?_
          refine am_iconst dX2_hold_41 ic_0 ?_
          refine am_iconst dX2_hold_42 ic_1 ?_
          refine am_cST lc_X2_59 (kX2_in G M a3 (0 : Int32) (1 : Int32)) rfl rfl rfl rfl rfl dX2_hold_43 ?_
          refine am_if_ne (tgt := 52) dX2_hold_46 rfl ?_ ?_
          · refine am_bipush dX2_hold_49 bp_m2 ?_
            exact am_iret dX2_hold_51 rfl rfl
          · refine am_iconst dX2_hold_52 ic_0 ?_
            refine am_istore [some (am_r 1 0), some (am_i a1), some (am_i a2), some (am_i a3), some (am_i (0 : Int32)), none, none, none] dX2_hold_53 rfl (Nat.le_of_ble_eq_true rfl) rfl ?_
            refine am_iconst dX2_hold_55 ic_0 ?_
            refine am_istore [some (am_r 1 0), some (am_i a1), some (am_i a2), some (am_i a3), some (am_i (0 : Int32)), some (am_i (0 : Int32)), none, none] dX2_hold_56 rfl (Nat.le_of_ble_eq_true rfl) rfl ?_
            refine am_iconst dX2_hold_58 ic_0 ?_
            refine am_istore [some (am_r 1 0), some (am_i a1), some (am_i a2), some (am_i a3), some (am_i (0 : Int32)), some (am_i (0 : Int32)), some (am_i (0 : Int32)), none] dX2_hold_59 rfl (Nat.le_of_ble_eq_true rfl) rfl ?_
            refine am_join (β := (Int32 × Int32 × Int32 × am_M)) 115 (fun s5 => [none, none, none, some (am_i a3), some (am_i s5.1), some (am_i s5.2.1), none, none]) (fun _ => []) (fun s5 => s5.2.2.2) (fun s5 => ?_) (fun hx4 => ?_)
            · refine am_iload_n dX2_hold_115 rfl rfl ?_
              refine am_if_ne (tgt := 124) dX2_hold_116 rfl ?_ ?_
              · refine am_iload dX2_hold_119 rfl ?_
                refine am_goto (tgt := 126) dX2_hold_121 rfl ?_
                exact am_iret dX2_hold_126 rfl rfl
              · refine am_iload dX2_hold_124 rfl ?_
                exact am_iret dX2_hold_126 rfl rfl
            refine am_loop (σ := (Int32 × Int32 × Int32 × am_M)) (ls' := fun s1 => [some (am_r 1 0), some (am_i a1), some (am_i a2), some (am_i a3), some (am_i s1.1), some (am_i s1.2.1), some (am_i s1.2.2.1), none]) (st' := fun _ => []) (M' := fun s1 => s1.2.2.2) (fun rec2 hr3 s1 => ?_) _ _
            unfold fX2_hold_L61
            refine am_iload dX2_hold_61 rfl ?_
            refine am_iconst dX2_hold_63 ic_3 ?_
            refine am_icmp_geB (tgt := 115) dX2_hold_64 rfl ?_ ?_
            · exact am_dr (hx4 (s1.1, s1.2.1, s1.2.2.1, s1.2.2.2)) (And.intro rfl (And.intro rfl (And.intro rfl trivial)))
            · refine am_aload_n dX2_hold_67 rfl rfl ?_
              refine am_iload dX2_hold_68 rfl ?_
              refine am_iload_n dX2_hold_70 rfl rfl ?_
              refine am_iload_n dX2_hold_71 rfl rfl ?_
              refine am_as ?_
              refine am_cVX (as' := [am_i s1.2.2.1, am_i a1, am_i a2]) lc_X2_156 rfl (kX2_heldBy G s1.2.2.2 s1.2.2.1 a1 a2) rfl rfl rfl rfl rfl rfl dX2_hold_72 (fun r6 => ?_)
              refine am_istore [some (am_r 1 0), some (am_i a1), some (am_i a2), some (am_i a3), some (am_i s1.1), some (am_i s1.2.1), some (am_i s1.2.2.1), some (am_i r6.1)] dX2_hold_75 rfl (Nat.le_of_ble_eq_true rfl) rfl ?_
              refine am_iload dX2_hold_77 rfl ?_
              refine am_iload dX2_hold_79 rfl ?_
              refine am_as ?_
              refine am_join (β := Int32) 91 (fun x7 => [some (am_r 1 0), some (am_i a1), some (am_i a2), some (am_i a3), some (am_i s1.1), some (am_i s1.2.1), some (am_i s1.2.2.1), some (am_i r6.1)]) (fun x7 => [am_i x7]) (fun x7 => r6.2) (fun x7 => ?_) (fun hm8 => ?_)
              · refine am_istore [some (am_r 1 0), some (am_i a1), some (am_i a2), some (am_i a3), some (am_i s1.1), some (am_i x7), some (am_i s1.2.2.1), some (am_i r6.1)] dX2_hold_91 rfl (Nat.le_of_ble_eq_true rfl) rfl ?_
                refine am_iload dX2_hold_93 rfl ?_
                refine am_iload dX2_hold_95 rfl ?_
                refine am_as ?_
                refine am_join (β := Int32) 107 (fun x9 => [some (am_r 1 0), some (am_i a1), some (am_i a2), some (am_i a3), some (am_i s1.1), some (am_i x7), some (am_i s1.2.2.1), some (am_i r6.1)]) (fun x9 => [am_i x9]) (fun x9 => r6.2) (fun x9 => ?_) (fun hm10 => ?_)
                · refine am_istore [some (am_r 1 0), some (am_i a1), some (am_i a2), some (am_i a3), some (am_i x9), some (am_i x7), some (am_i s1.2.2.1), some (am_i r6.1)] dX2_hold_107 rfl (Nat.le_of_ble_eq_true rfl) rfl ?_
                  refine am_iinc [some (am_r 1 0), some (am_i a1), some (am_i a2), some (am_i a3), some (am_i x9), some (am_i x7), some (am_i (s1.2.2.1 + 1)), some (am_i r6.1)] dX2_hold_109 rfl ic_1 rfl (Nat.le_of_ble_eq_true rfl) rfl ?_
                  refine am_goto (tgt := 61) dX2_hold_112 rfl ?_
                  exact am_dr (hr3 (x9, x7, (s1.2.2.1 + 1), r6.2)) (And.intro rfl (And.intro rfl (And.intro rfl (And.intro rfl (And.intro rfl (And.intro rfl (And.intro rfl trivial)))))))
                refine am_icmp_leB (tgt := 105) dX2_hold_97 rfl ?_ ?_
                · refine am_iload dX2_hold_105 rfl ?_
                  exact hm10 s1.1
                · refine am_iload dX2_hold_100 rfl ?_
                  refine am_goto (tgt := 107) dX2_hold_102 rfl ?_
                  exact hm10 r6.1
              refine am_icmp_leB (tgt := 89) dX2_hold_81 rfl ?_ ?_
              · refine am_iload dX2_hold_89 rfl ?_
                exact hm8 s1.2.1
              · refine am_iload dX2_hold_84 rfl ?_
                refine am_goto (tgt := 91) dX2_hold_86 rfl ?_
                exact hm8 s1.2.2.1
def fX2_round_L47 (a1 : Int32) (a2 : Int32) (a3 : Int32) (a4 : Int32) (rec1 : Int32 → Option (Int32 ⊕ Int32)) (s2 : Int32) : Option (Int32 ⊕ Int32) :=
(if (a1 * a3) ≤ s2 then
some (.inr s2)
 else
(if a1 = 0 then none else (if (jv_rem (s2 + a2) a1) = 0 then
(if a3 = 0 then none else (if (jv_rem (s2 + a4) a3) = 0 then
some (.inl s2)
 else
rec1 (s2 + 1)))
 else
rec1 (s2 + 1))))
def fX2_round (m : Nat → Nat → Int32) (a1 : Int32) (a2 : Int32) (a3 : Int32) (a4 : Int32) : Option Int32 :=
(if (fX2_in a1 (1 : Int32) (99 : Int32)) = 0 then
some (-2 : Int32)
 else
(if (fX2_in a3 (1 : Int32) (99 : Int32)) = 0 then
some (-2 : Int32)
 else
(if (fX2_in a2 (0 : Int32) (99 : Int32)) = 0 then
some (-2 : Int32)
 else
(if (fX2_in a4 (0 : Int32) (99 : Int32)) = 0 then
some (-2 : Int32)
 else
(Option.bind (am_it (fX2_round_L47 a1 a2 a3 a4) am_fuel (0 : Int32)) (Sum.elim some fun (s5 : Int32) =>
some (-6 : Int32)))))))
set_option maxHeartbeats 4000000 in
theorem kX2_round (G : am_G) (M : am_M) (a1 : Int32) (a2 : Int32) (a3 : Int32) (a4 : Int32) : am_C G 2 mX2_round [am_r 1 0, am_i a1, am_i a2, am_i a3, am_i a4] M (fun r => (some (am_i r), M)) (fX2_round (M 1) a1 a2 a3 a4) := by
  refine am_met (nL := 6) (ls0 := [some (am_r 1 0), some (am_i a1), some (am_i a2), some (am_i a3), some (am_i a4), none]) (by decide) rfl (Nat.le_of_ble_eq_true rfl) (And.intro rfl (And.intro rfl (And.intro rfl (And.intro rfl (And.intro rfl trivial))))) ?_
  unfold fX2_round
  refine am_iload_n dX2_round_0 rfl rfl ?_
  refine am_iconst dX2_round_1 ic_1 ?_
  refine am_bipush dX2_round_2 bp_99 ?_
  refine am_cST lc_X2_59 (kX2_in G M a1 (1 : Int32) (99 : Int32)) rfl rfl rfl rfl rfl dX2_round_4 ?_
  refine am_if_eq (tgt := 41) dX2_round_7 rfl ?_ ?_
  · refine am_bipush dX2_round_41 bp_m2 ?_
    exact am_iret dX2_round_43 rfl rfl
  · refine am_iload_n dX2_round_10 rfl rfl ?_
    refine am_iconst dX2_round_11 ic_1 ?_
    refine am_bipush dX2_round_12 bp_99 ?_
    refine am_cST lc_X2_59 (kX2_in G M a3 (1 : Int32) (99 : Int32)) rfl rfl rfl rfl rfl dX2_round_14 ?_
    refine am_if_eq (tgt := 41) dX2_round_17 rfl ?_ ?_
    · refine am_bipush dX2_round_41 bp_m2 ?_
      exact am_iret dX2_round_43 rfl rfl
    · refine am_iload_n dX2_round_20 rfl rfl ?_
      refine am_iconst dX2_round_21 ic_0 ?_
      refine am_bipush dX2_round_22 bp_99 ?_
      refine am_cST lc_X2_59 (kX2_in G M a2 (0 : Int32) (99 : Int32)) rfl rfl rfl rfl rfl dX2_round_24 ?_
      refine am_if_eq (tgt := 41) dX2_round_27 rfl ?_ ?_
      · refine am_bipush dX2_round_41 bp_m2 ?_
        exact am_iret dX2_round_43 rfl rfl
      · refine am_iload dX2_round_30 rfl ?_
        refine am_iconst dX2_round_32 ic_0 ?_
        refine am_bipush dX2_round_33 bp_99 ?_
        refine am_cST lc_X2_59 (kX2_in G M a4 (0 : Int32) (99 : Int32)) rfl rfl rfl rfl rfl dX2_round_35 ?_
        refine am_if_ne (tgt := 44) dX2_round_38 rfl ?_ ?_
        · refine am_bipush dX2_round_41 bp_m2 ?_
          exact am_iret dX2_round_43 rfl rfl
        · refine am_iconst dX2_round_44 ic_0 ?_
          refine am_istore [some (am_r 1 0), some (am_i a1), some (am_i a2), some (am_i a3), some (am_i a4), some (am_i (0 : Int32))] dX2_round_45 rfl (Nat.le_of_ble_eq_true rfl) rfl ?_
          refine am_joinR (S := Int32) 83 (fun s5 => [none, none, none, none, none, none]) (fun _ => []) (fun s5 => M) (fun s5 => ?_) (fun hx4 => ?_)
          · refine am_bipush dX2_round_83 bp_m6 ?_
            exact am_iret dX2_round_85 rfl rfl
          refine am_drop (ls' := [none, some (am_i a1), some (am_i a2), some (am_i a3), some (am_i a4), some (am_i (0 : Int32))]) (And.intro rfl (And.intro rfl (And.intro rfl (And.intro rfl (And.intro rfl trivial))))) ?_
          refine am_loop (σ := Int32) (ls' := fun s1 => [none, some (am_i a1), some (am_i a2), some (am_i a3), some (am_i a4), some (am_i s1)]) (st' := fun _ => []) (M' := fun s1 => M) (fun rec2 hr3 s1 => ?_) _ _
          unfold fX2_round_L47
          refine am_iload dX2_round_47 rfl ?_
          refine am_iload_n dX2_round_49 rfl rfl ?_
          refine am_iload_n dX2_round_50 rfl rfl ?_
          refine am_imul dX2_round_51 ?_
          refine am_icmp_geB (tgt := 83) dX2_round_52 rfl ?_ ?_
          · exact am_dr (hx4 s1) trivial
          · refine am_iload dX2_round_55 rfl ?_
            refine am_iload_n dX2_round_57 rfl rfl ?_
            refine am_iadd dX2_round_58 ?_
            refine am_iload_n dX2_round_59 rfl rfl ?_
            refine am_grdB (fun h6 => ?_)
            refine am_irem dX2_round_60 h6 ?_
            refine am_if_neB (tgt := 77) dX2_round_61 rfl ?_ ?_
            · refine am_iload dX2_round_64 rfl ?_
              refine am_iload dX2_round_66 rfl ?_
              refine am_iadd dX2_round_68 ?_
              refine am_iload_n dX2_round_69 rfl rfl ?_
              refine am_grdB (fun h7 => ?_)
              refine am_irem dX2_round_70 h7 ?_
              refine am_if_neB (tgt := 77) dX2_round_71 rfl ?_ ?_
              · refine am_iload dX2_round_74 rfl ?_
                show am_R _ _ _ _ _ _ _ _ (some s1)
                exact am_iret dX2_round_76 rfl rfl
              · refine am_iinc [none, some (am_i a1), some (am_i a2), some (am_i a3), some (am_i a4), some (am_i (s1 + 1))] dX2_round_77 rfl ic_1 rfl (Nat.le_of_ble_eq_true rfl) rfl ?_
                refine am_goto (tgt := 47) dX2_round_80 rfl ?_
                exact hr3 (s1 + 1)
            · refine am_iinc [none, some (am_i a1), some (am_i a2), some (am_i a3), some (am_i a4), some (am_i (s1 + 1))] dX2_round_77 rfl ic_1 rfl (Nat.le_of_ble_eq_true rfl) rfl ?_
              refine am_goto (tgt := 47) dX2_round_80 rfl ?_
              exact hr3 (s1 + 1)
def fX2_heard (M : am_M) (a1 : Int32) (a2 : Int32) : Option (Int32 × am_M) :=
(if (fX2_isGallery a1) = 0 then
some ((-1 : Int32), M)
 else
(if (fX2_in a2 (-1 : Int32) (23 : Int32)) = 0 then
some ((-2 : Int32), M)
 else
(if (M 1 9 0) = (8 : Int32) then
some ((-4 : Int32), M)
 else
(Option.bind (am_wr M 1 10 16 ((2 : Int32) * (M 1 9 0)) a1) fun M1 =>
(Option.bind (am_wr M1 1 10 16 (((2 : Int32) * (M1 1 9 0)) + (1 : Int32)) a2) fun M2 =>
some (((am_put M2 1 9 ((M2 1 9 0) + (1 : Int32))) 1 9 0), (am_put M2 1 9 ((M2 1 9 0) + (1 : Int32)))))))))
set_option maxHeartbeats 4000000 in
theorem kX2_heard (G : am_G) (M : am_M) (a1 : Int32) (a2 : Int32) : am_C G 3 mX2_heard [am_r 1 0, am_i a1, am_i a2] M (fun r => (some (am_i r.1), r.2)) (fX2_heard M a1 a2) := by
  refine am_met (nL := 3) (ls0 := [some (am_r 1 0), some (am_i a1), some (am_i a2)]) (by decide) rfl (Nat.le_of_ble_eq_true rfl) (And.intro rfl (And.intro rfl (And.intro rfl trivial))) ?_
  unfold fX2_heard
  refine am_iload_n dX2_heard_0 rfl rfl ?_
  refine am_cST lc_X2_71 (kX2_isGallery G M a1) rfl rfl rfl rfl rfl dX2_heard_1 ?_
  refine am_if_ne (tgt := 9) dX2_heard_4 rfl ?_ ?_
  · refine am_iconst dX2_heard_7 ic_m1 ?_
    exact am_iret dX2_heard_8 rfl rfl
  · refine am_iload_n dX2_heard_9 rfl rfl ?_
    refine am_iconst dX2_heard_10 ic_m1 ?_
    refine am_bipush dX2_heard_11 bp_23 ?_
    refine am_cST lc_X2_59 (kX2_in G M a2 (-1 : Int32) (23 : Int32)) rfl rfl rfl rfl rfl dX2_heard_13 ?_
    refine am_if_ne (tgt := 22) dX2_heard_16 rfl ?_ ?_
    · refine am_bipush dX2_heard_19 bp_m2 ?_
      exact am_iret dX2_heard_21 rfl rfl
    · refine am_aload_n dX2_heard_22 rfl rfl ?_
      refine am_get lf_X2_160 rfl rfl dX2_heard_23 ?_
      refine am_bipush dX2_heard_26 bp_8 ?_
      refine am_icmp_ne (tgt := 34) dX2_heard_28 rfl ?_ ?_
      · refine am_bipush dX2_heard_31 bp_m4 ?_
        exact am_iret dX2_heard_33 rfl rfl
      · refine am_aload_n dX2_heard_34 rfl rfl ?_
        refine am_getA lf_X2_31 rfl rfl dX2_heard_35 ?_
        refine am_iconst dX2_heard_38 ic_2 ?_
        refine am_aload_n dX2_heard_39 rfl rfl ?_
        refine am_get lf_X2_160 rfl rfl dX2_heard_40 ?_
        refine am_imul dX2_heard_43 ?_
        refine am_iload_n dX2_heard_44 rfl rfl ?_
        refine am_iast rfl dX2_heard_45 (fun M1 => ?_)
        refine am_aload_n dX2_heard_46 rfl rfl ?_
        refine am_getA lf_X2_31 rfl rfl dX2_heard_47 ?_
        refine am_iconst dX2_heard_50 ic_2 ?_
        refine am_aload_n dX2_heard_51 rfl rfl ?_
        refine am_get lf_X2_160 rfl rfl dX2_heard_52 ?_
        refine am_imul dX2_heard_55 ?_
        refine am_iconst dX2_heard_56 ic_1 ?_
        refine am_iadd dX2_heard_57 ?_
        refine am_iload_n dX2_heard_58 rfl rfl ?_
        refine am_iast rfl dX2_heard_59 (fun M2 => ?_)
        refine am_aload_n dX2_heard_60 rfl rfl ?_
        refine am_dup dX2_heard_61 rfl ?_
        refine am_get lf_X2_160 rfl rfl dX2_heard_62 ?_
        refine am_iconst dX2_heard_65 ic_1 ?_
        refine am_iadd dX2_heard_66 ?_
        refine am_putf lf_X2_160 rfl rfl dX2_heard_67 ?_
        refine am_aload_n dX2_heard_70 rfl rfl ?_
        refine am_get lf_X2_160 rfl rfl dX2_heard_71 ?_
        exact am_iret dX2_heard_74 rfl rfl
def fX2_forget (M : am_M) : Option (Int32 × am_M) :=
some ((M 1 9 0), (am_put M 1 9 (0 : Int32)))
set_option maxHeartbeats 4000000 in
theorem kX2_forget (G : am_G) (M : am_M)  : am_C G 1 mX2_forget [am_r 1 0] M (fun r => (some (am_i r.1), r.2)) (fX2_forget M) := by
  refine am_met (nL := 2) (ls0 := [some (am_r 1 0), none]) (by decide) rfl (Nat.le_of_ble_eq_true rfl) (And.intro rfl trivial) ?_
  unfold fX2_forget
  refine am_aload_n dX2_forget_0 rfl rfl ?_
  refine am_get lf_X2_160 rfl rfl dX2_forget_1 ?_
  refine am_istore_n [some (am_r 1 0), some (am_i (M 1 9 0))] dX2_forget_4 rfl rfl (Nat.le_of_ble_eq_true rfl) rfl ?_
  refine am_aload_n dX2_forget_5 rfl rfl ?_
  refine am_iconst dX2_forget_6 ic_0 ?_
  refine am_putf lf_X2_160 rfl rfl dX2_forget_7 ?_
  refine am_iload_n dX2_forget_10 rfl rfl ?_
  exact am_iret dX2_forget_11 rfl rfl
def fX2_layApart_L28 (s1 : (Int32 × am_M)) (rec2 : (Int32 × am_M) → Option (Int32 × am_M)) (s3 : (Int32 × am_M)) : Option (Int32 × am_M) :=
(if (10 : Int32) ≤ s3.1 then
some (s3.1, s3.2)
 else
(Option.bind (am_rd ((s3.2) 1 18) 10 s3.1) fun v4 =>
(Option.bind (am_wr s3.2 1 20 100 (((10 : Int32) * s1.1) + s3.1) v4) fun M5 =>
rec2 ((s3.1 + 1), M5))))
def fX2_layApart_L2  (rec1 : (Int32 × am_M) → Option (Int32 × am_M)) (s2 : (Int32 × am_M)) : Option (Int32 × am_M) :=
(if (10 : Int32) ≤ s2.1 then
some (s2.1, s2.2)
 else
(Option.bind (am_rd ((s2.2) 1 0) 36 (34 : Int32)) fun v3 =>
(Option.bind (fX2_layFar s2.2 s2.1 ((1023 : Int32) &&& (v3 ^^^ (-1 : Int32)))) fun M4 =>
(Option.bind (am_it (fX2_layApart_L28 s2) am_fuel ((0 : Int32), M4)) fun (s5 : (Int32 × am_M)) =>
rec1 ((s2.1 + 1), s5.2)))))
def fX2_layApart (M : am_M) : Option am_M :=
(Option.bind (am_it fX2_layApart_L2 am_fuel ((0 : Int32), M)) fun (s5 : (Int32 × am_M)) =>
some s5.2)
set_option maxHeartbeats 4000000 in
theorem kX2_layApart (G : am_G) (M : am_M)  : am_C G 3 mX2_layApart [am_r 1 0] M (fun r => (none, r)) (fX2_layApart M) := by
  refine am_met (nL := 3) (ls0 := [some (am_r 1 0), none, none]) (by decide) rfl (Nat.le_of_ble_eq_true rfl) (And.intro rfl trivial) ?_
  unfold fX2_layApart
  refine am_iconst dX2_layApart_0 ic_0 ?_
  refine am_istore_n [some (am_r 1 0), some (am_i (0 : Int32)), none] dX2_layApart_1 rfl rfl (Nat.le_of_ble_eq_true rfl) rfl ?_
  refine am_join (β := (Int32 × am_M)) 63 (fun s5 => [none, none, none]) (fun _ => []) (fun s5 => s5.2) (fun s5 => ?_) (fun hx4 => ?_)
  · exact am_vret dX2_layApart_63 rfl rfl
  refine am_loop (σ := (Int32 × am_M)) (ls' := fun s1 => [some (am_r 1 0), some (am_i s1.1), none]) (st' := fun _ => []) (M' := fun s1 => s1.2) (fun rec2 hr3 s1 => ?_) _ _
  unfold fX2_layApart_L2
  refine am_iload_n dX2_layApart_2 rfl rfl ?_
  refine am_bipush dX2_layApart_3 bp_10 ?_
  refine am_icmp_geB (tgt := 63) dX2_layApart_5 rfl ?_ ?_
  · exact am_dr (hx4 (s1.1, s1.2)) trivial
  · refine am_aload_n dX2_layApart_8 rfl rfl ?_
    refine am_iload_n dX2_layApart_9 rfl rfl ?_
    refine am_sipush dX2_layApart_10 sp_1023 ?_
    refine am_aload_n dX2_layApart_13 rfl rfl ?_
    refine am_getA lf_X2_7 rfl rfl dX2_layApart_14 ?_
    refine am_bipush dX2_layApart_17 bp_34 ?_
    refine am_as ?_
    refine am_iald (β := Unit) rfl dX2_layApart_19 (fun v6 => ?_)
    refine am_iconst dX2_layApart_20 ic_m1 ?_
    refine am_ixor dX2_layApart_21 ?_
    refine am_iand dX2_layApart_22 ?_
    refine am_as ?_
    refine am_cVU (as' := [am_i s1.1, am_i ((1023 : Int32) &&& (v6 ^^^ (-1 : Int32)))]) lc_X2_145 rfl (kX2_layFar G s1.2 s1.1 ((1023 : Int32) &&& (v6 ^^^ (-1 : Int32)))) rfl rfl rfl rfl rfl rfl dX2_layApart_23 (fun M7 => ?_)
    refine am_iconst dX2_layApart_26 ic_0 ?_
    refine am_istore_n [some (am_r 1 0), some (am_i s1.1), some (am_i (0 : Int32))] dX2_layApart_27 rfl rfl (Nat.le_of_ble_eq_true rfl) rfl ?_
    refine am_as ?_
    refine am_join (β := (Int32 × am_M)) 57 (fun s12 => [some (am_r 1 0), some (am_i s1.1), none]) (fun _ => []) (fun s12 => s12.2) (fun s12 => ?_) (fun hx11 => ?_)
    · refine am_iinc [some (am_r 1 0), some (am_i (s1.1 + 1)), none] dX2_layApart_57 rfl ic_1 rfl (Nat.le_of_ble_eq_true rfl) rfl ?_
      refine am_goto (tgt := 2) dX2_layApart_60 rfl ?_
      exact hr3 ((s1.1 + 1), s12.2)
    refine am_loop (σ := (Int32 × am_M)) (ls' := fun s8 => [some (am_r 1 0), some (am_i s1.1), some (am_i s8.1)]) (st' := fun _ => []) (M' := fun s8 => s8.2) (fun rec9 hr10 s8 => ?_) _ _
    unfold fX2_layApart_L28
    refine am_iload_n dX2_layApart_28 rfl rfl ?_
    refine am_bipush dX2_layApart_29 bp_10 ?_
    refine am_icmp_geB (tgt := 57) dX2_layApart_31 rfl ?_ ?_
    · exact am_dr (hx11 (s8.1, s8.2)) (And.intro rfl (And.intro rfl trivial))
    · refine am_aload_n dX2_layApart_34 rfl rfl ?_
      refine am_getA lf_X2_47 rfl rfl dX2_layApart_35 ?_
      refine am_bipush dX2_layApart_38 bp_10 ?_
      refine am_iload_n dX2_layApart_40 rfl rfl ?_
      refine am_imul dX2_layApart_41 ?_
      refine am_iload_n dX2_layApart_42 rfl rfl ?_
      refine am_iadd dX2_layApart_43 ?_
      refine am_aload_n dX2_layApart_44 rfl rfl ?_
      refine am_getA lf_X2_40 rfl rfl dX2_layApart_45 ?_
      refine am_iload_n dX2_layApart_48 rfl rfl ?_
      refine am_as ?_
      refine am_iald (β := Unit) rfl dX2_layApart_49 (fun v13 => ?_)
      refine am_as ?_
      refine am_iast rfl dX2_layApart_50 (fun M14 => ?_)
      refine am_iinc [some (am_r 1 0), some (am_i s1.1), some (am_i (s8.1 + 1))] dX2_layApart_51 rfl ic_1 rfl (Nat.le_of_ble_eq_true rfl) rfl ?_
      refine am_goto (tgt := 28) dX2_layApart_54 rfl ?_
      exact hr10 ((s8.1 + 1), M14)
def fX2_noteIn (m : Nat → Nat → Int32) (a1 : Int32) (a2 : Int32) : Option Int32 :=
(Option.bind (am_rd (m 20) 100 (((a1 / (100 : Int32)) * (10 : Int32)) + a2)) fun v1 =>
(if 0 ≤ ((jv_rem a1 (100 : Int32)) - v1) then
some ((jv_rem a1 (100 : Int32)) - v1)
 else
some (-1 : Int32)))
set_option maxHeartbeats 4000000 in
theorem kX2_noteIn (G : am_G) (M : am_M) (a1 : Int32) (a2 : Int32) : am_C G 1 mX2_noteIn [am_r 1 0, am_i a1, am_i a2] M (fun r => (some (am_i r), M)) (fX2_noteIn (M 1) a1 a2) := by
  refine am_met (nL := 4) (ls0 := [some (am_r 1 0), some (am_i a1), some (am_i a2), none]) (by decide) rfl (Nat.le_of_ble_eq_true rfl) (And.intro rfl (And.intro rfl (And.intro rfl trivial))) ?_
  unfold fX2_noteIn
  refine am_iload_n dX2_noteIn_0 rfl rfl ?_
  refine am_bipush dX2_noteIn_1 bp_100 ?_
  refine am_irem dX2_noteIn_3 (by decide) ?_
  refine am_aload_n dX2_noteIn_4 rfl rfl ?_
  refine am_getA lf_X2_47 rfl rfl dX2_noteIn_5 ?_
  refine am_iload_n dX2_noteIn_8 rfl rfl ?_
  refine am_bipush dX2_noteIn_9 bp_100 ?_
  refine am_idiv dX2_noteIn_11 (by decide) ?_
  refine am_bipush dX2_noteIn_12 bp_10 ?_
  refine am_imul dX2_noteIn_14 ?_
  refine am_iload_n dX2_noteIn_15 rfl rfl ?_
  refine am_iadd dX2_noteIn_16 ?_
  refine am_iald (β := Unit) rfl dX2_noteIn_17 (fun v1 => ?_)
  refine am_isub dX2_noteIn_18 ?_
  refine am_istore_n [some (am_r 1 0), some (am_i a1), some (am_i a2), some (am_i ((jv_rem a1 (100 : Int32)) - v1))] dX2_noteIn_19 rfl rfl (Nat.le_of_ble_eq_true rfl) rfl ?_
  refine am_iload_n dX2_noteIn_20 rfl rfl ?_
  refine am_if_ge (tgt := 28) dX2_noteIn_21 rfl ?_ ?_
  · refine am_iload_n dX2_noteIn_28 rfl rfl ?_
    exact am_iret dX2_noteIn_29 rfl rfl
  · refine am_iconst dX2_noteIn_24 ic_m1 ?_
    refine am_goto (tgt := 29) dX2_noteIn_25 rfl ?_
    exact am_iret dX2_noteIn_29 rfl rfl
def fX2_isLost_L17 (m : Nat → Nat → Int32) (a1 : Int32) (rec1 : (Int32 × Int32) → Option (Int32 × Int32)) (s2 : (Int32 × Int32)) : Option (Int32 × Int32) :=
(if (m 9 0) ≤ s2.2 then
some (s2.1, s2.2)
 else
(if s2.1 = 0 then
some (s2.1, s2.2)
 else
(Option.bind (am_rd (m 10) 16 ((2 : Int32) * s2.2)) fun v3 =>
(Option.bind (fX2_noteIn m a1 v3) fun v4 =>
(Option.bind (am_rd (m 10) 16 (((2 : Int32) * s2.2) + (1 : Int32))) fun v5 =>
(Option.bind (if v4 = v5 then
some (1 : Int32)
 else
some (0 : Int32)) fun (x6 : Int32) =>
rec1 (x6, (s2.2 + 1))))))))
def fX2_isLost (m : Nat → Nat → Int32) (a1 : Int32) : Option Int32 :=
(Option.bind (if (24 : Int32) ≤ (jv_rem a1 (100 : Int32)) then
some (0 : Int32)
 else
some (1 : Int32)) fun (x1 : Int32) =>
(Option.bind (am_it (fX2_isLost_L17 m a1) am_fuel (x1, (0 : Int32))) fun (s7 : (Int32 × Int32)) =>
(if s7.1 = 0 ∨ s7.1 = 1 then some s7.1 else none)))
set_option maxHeartbeats 4000000 in
theorem kX2_isLost (G : am_G) (M : am_M) (a1 : Int32) : am_C G 2 mX2_isLost [am_r 1 0, am_i a1] M (fun r => (some (am_i r), M)) (fX2_isLost (M 1) a1) := by
  refine am_met (nL := 4) (ls0 := [some (am_r 1 0), some (am_i a1), none, none]) (by decide) rfl (Nat.le_of_ble_eq_true rfl) (And.intro rfl (And.intro rfl trivial)) ?_
  unfold fX2_isLost
  refine am_iload_n dX2_isLost_0 rfl rfl ?_
  refine am_bipush dX2_isLost_1 bp_100 ?_
  refine am_irem dX2_isLost_3 (by decide) ?_
  refine am_bipush dX2_isLost_4 bp_24 ?_
  refine am_join (β := Int32) 14 (fun x1 => [some (am_r 1 0), some (am_i a1), none, none]) (fun x1 => [am_i x1]) (fun x1 => M) (fun x1 => ?_) (fun hm2 => ?_)
  · refine am_istore_n [some (am_r 1 0), some (am_i a1), some (am_i x1), none] dX2_isLost_14 rfl rfl (Nat.le_of_ble_eq_true rfl) rfl ?_
    refine am_iconst dX2_isLost_15 ic_0 ?_
    refine am_istore_n [some (am_r 1 0), some (am_i a1), some (am_i x1), some (am_i (0 : Int32))] dX2_isLost_16 rfl rfl (Nat.le_of_ble_eq_true rfl) rfl ?_
    refine am_join (β := (Int32 × Int32)) 67 (fun s7 => [none, none, some (am_i s7.1), none]) (fun _ => []) (fun s7 => M) (fun s7 => ?_) (fun hx6 => ?_)
    · refine am_iload_n dX2_isLost_67 rfl rfl ?_
      refine am_ite (fun h13 => ?_) (fun _ => am_none)
      exact am_zret h13 dX2_isLost_68 rfl rfl
    refine am_loop (σ := (Int32 × Int32)) (ls' := fun s3 => [some (am_r 1 0), some (am_i a1), some (am_i s3.1), some (am_i s3.2)]) (st' := fun _ => []) (M' := fun s3 => M) (fun rec4 hr5 s3 => ?_) _ _
    unfold fX2_isLost_L17
    refine am_iload_n dX2_isLost_17 rfl rfl ?_
    refine am_aload_n dX2_isLost_18 rfl rfl ?_
    refine am_get lf_X2_160 rfl rfl dX2_isLost_19 ?_
    refine am_icmp_geB (tgt := 67) dX2_isLost_22 rfl ?_ ?_
    · exact am_dr (hx6 (s3.1, s3.2)) (And.intro rfl trivial)
    · refine am_iload_n dX2_isLost_25 rfl rfl ?_
      refine am_if_eqB (tgt := 67) dX2_isLost_26 rfl ?_ ?_
      · exact am_dr (hx6 (s3.1, s3.2)) (And.intro rfl trivial)
      · refine am_aload_n dX2_isLost_29 rfl rfl ?_
        refine am_iload_n dX2_isLost_30 rfl rfl ?_
        refine am_aload_n dX2_isLost_31 rfl rfl ?_
        refine am_getA lf_X2_31 rfl rfl dX2_isLost_32 ?_
        refine am_iconst dX2_isLost_35 ic_2 ?_
        refine am_iload_n dX2_isLost_36 rfl rfl ?_
        refine am_imul dX2_isLost_37 ?_
        refine am_as ?_
        refine am_iald (β := Unit) rfl dX2_isLost_38 (fun v8 => ?_)
        refine am_as ?_
        refine am_cVI (as' := [am_i a1, am_i v8]) lc_X2_163 rfl (kX2_noteIn G M a1 v8) rfl rfl rfl rfl rfl rfl dX2_isLost_39 (fun v9 => ?_)
        refine am_aload_n dX2_isLost_42 rfl rfl ?_
        refine am_getA lf_X2_31 rfl rfl dX2_isLost_43 ?_
        refine am_iconst dX2_isLost_46 ic_2 ?_
        refine am_iload_n dX2_isLost_47 rfl rfl ?_
        refine am_imul dX2_isLost_48 ?_
        refine am_iconst dX2_isLost_49 ic_1 ?_
        refine am_iadd dX2_isLost_50 ?_
        refine am_as ?_
        refine am_iald (β := Unit) rfl dX2_isLost_51 (fun v10 => ?_)
        refine am_as ?_
        refine am_join (β := Int32) 60 (fun x11 => [some (am_r 1 0), some (am_i a1), some (am_i s3.1), some (am_i s3.2)]) (fun x11 => [am_i x11]) (fun x11 => M) (fun x11 => ?_) (fun hm12 => ?_)
        · refine am_istore_n [some (am_r 1 0), some (am_i a1), some (am_i x11), some (am_i s3.2)] dX2_isLost_60 rfl rfl (Nat.le_of_ble_eq_true rfl) rfl ?_
          refine am_iinc [some (am_r 1 0), some (am_i a1), some (am_i x11), some (am_i (s3.2 + 1))] dX2_isLost_61 rfl ic_1 rfl (Nat.le_of_ble_eq_true rfl) rfl ?_
          refine am_goto (tgt := 17) dX2_isLost_64 rfl ?_
          exact hr5 (x11, (s3.2 + 1))
        refine am_icmp_neB (tgt := 59) dX2_isLost_52 rfl ?_ ?_
        · refine am_iconst dX2_isLost_55 ic_1 ?_
          refine am_goto (tgt := 60) dX2_isLost_56 rfl ?_
          exact hm12 (1 : Int32)
        · refine am_iconst dX2_isLost_59 ic_0 ?_
          exact hm12 (0 : Int32)
  refine am_icmp_geB (tgt := 13) dX2_isLost_6 rfl ?_ ?_
  · refine am_iconst dX2_isLost_13 ic_0 ?_
    exact hm2 (0 : Int32)
  · refine am_iconst dX2_isLost_9 ic_1 ?_
    refine am_goto (tgt := 14) dX2_isLost_10 rfl ?_
    exact hm2 (1 : Int32)
def fX2_losts_L8 (a1 : Int32) (M1 : am_M) (rec2 : (Int32 × Int32) → Option ((Int32 × am_M) ⊕ (Int32 × Int32))) (s3 : (Int32 × Int32)) : Option ((Int32 × am_M) ⊕ (Int32 × Int32)) :=
(if (1000 : Int32) ≤ s3.2 then
some (.inr (s3.1, s3.2))
 else
(Option.bind (fX2_isLost (M1 1) s3.2) fun v4 =>
(if v4 = 0 then
rec2 (s3.1, (s3.2 + 1))
 else
(if s3.1 = a1 then
some (.inl (s3.2, M1))
 else
rec2 ((s3.1 + 1), (s3.2 + 1))))))
def fX2_losts (M : am_M) (a1 : Int32) : Option (Int32 × am_M) :=
(Option.bind (fX2_layApart M) fun M1 =>
(Option.bind (am_it (fX2_losts_L8 a1 M1) am_fuel ((0 : Int32), (0 : Int32))) (Sum.elim some fun (s6 : (Int32 × Int32)) =>
(if a1 = (-1 : Int32) then
some (s6.1, M1)
 else
some ((-6 : Int32), M1)))))
set_option maxHeartbeats 4000000 in
theorem kX2_losts (G : am_G) (M : am_M) (a1 : Int32) : am_C G 4 mX2_losts [am_r 1 0, am_i a1] M (fun r => (some (am_i r.1), r.2)) (fX2_losts M a1) := by
  refine am_met (nL := 4) (ls0 := [some (am_r 1 0), some (am_i a1), none, none]) (by decide) rfl (Nat.le_of_ble_eq_true rfl) (And.intro rfl (And.intro rfl trivial)) ?_
  unfold fX2_losts
  refine am_aload_n dX2_losts_0 rfl rfl ?_
  refine am_cVU (as' := []) lc_X2_166 rfl (kX2_layApart G M) rfl rfl rfl rfl rfl rfl dX2_losts_1 (fun M1 => ?_)
  refine am_iconst dX2_losts_4 ic_0 ?_
  refine am_istore_n [some (am_r 1 0), some (am_i a1), some (am_i (0 : Int32)), none] dX2_losts_5 rfl rfl (Nat.le_of_ble_eq_true rfl) rfl ?_
  refine am_iconst dX2_losts_6 ic_0 ?_
  refine am_istore_n [some (am_r 1 0), some (am_i a1), some (am_i (0 : Int32)), some (am_i (0 : Int32))] dX2_losts_7 rfl rfl (Nat.le_of_ble_eq_true rfl) rfl ?_
  refine am_joinR (S := (Int32 × Int32)) 39 (fun s6 => [none, some (am_i a1), some (am_i s6.1), none]) (fun _ => []) (fun s6 => M1) (fun s6 => ?_) (fun hx5 => ?_)
  · refine am_iload_n dX2_losts_39 rfl rfl ?_
    refine am_iconst dX2_losts_40 ic_m1 ?_
    refine am_icmp_ne (tgt := 48) dX2_losts_41 rfl ?_ ?_
    · refine am_iload_n dX2_losts_44 rfl rfl ?_
      refine am_goto (tgt := 50) dX2_losts_45 rfl ?_
      exact am_iret dX2_losts_50 rfl rfl
    · refine am_bipush dX2_losts_48 bp_m6 ?_
      exact am_iret dX2_losts_50 rfl rfl
  refine am_loop (σ := (Int32 × Int32)) (ls' := fun s2 => [some (am_r 1 0), some (am_i a1), some (am_i s2.1), some (am_i s2.2)]) (st' := fun _ => []) (M' := fun s2 => M1) (fun rec3 hr4 s2 => ?_) _ _
  unfold fX2_losts_L8
  refine am_iload_n dX2_losts_8 rfl rfl ?_
  refine am_sipush dX2_losts_9 sp_1000 ?_
  refine am_icmp_geB (tgt := 39) dX2_losts_12 rfl ?_ ?_
  · exact am_dr (hx5 (s2.1, s2.2)) (And.intro rfl (And.intro rfl trivial))
  · refine am_aload_n dX2_losts_15 rfl rfl ?_
    refine am_iload_n dX2_losts_16 rfl rfl ?_
    refine am_as ?_
    refine am_cVI (as' := [am_i s2.2]) lc_X2_169 rfl (kX2_isLost G M1 s2.2) rfl rfl rfl rfl rfl rfl dX2_losts_17 (fun v7 => ?_)
    refine am_if_eqB (tgt := 33) dX2_losts_20 rfl ?_ ?_
    · refine am_iinc [some (am_r 1 0), some (am_i a1), some (am_i s2.1), some (am_i (s2.2 + 1))] dX2_losts_33 rfl ic_1 rfl (Nat.le_of_ble_eq_true rfl) rfl ?_
      refine am_goto (tgt := 8) dX2_losts_36 rfl ?_
      exact hr4 (s2.1, (s2.2 + 1))
    · refine am_iload_n dX2_losts_23 rfl rfl ?_
      refine am_iload_n dX2_losts_24 rfl rfl ?_
      refine am_icmp_neB (tgt := 30) dX2_losts_25 rfl ?_ ?_
      · refine am_iload_n dX2_losts_28 rfl rfl ?_
        show am_R _ _ _ _ _ _ _ _ (some (s2.2, M1))
        exact am_iret dX2_losts_29 rfl rfl
      · refine am_iinc [some (am_r 1 0), some (am_i a1), some (am_i (s2.1 + 1)), some (am_i s2.2)] dX2_losts_30 rfl ic_1 rfl (Nat.le_of_ble_eq_true rfl) rfl ?_
        refine am_iinc [some (am_r 1 0), some (am_i a1), some (am_i (s2.1 + 1)), some (am_i (s2.2 + 1))] dX2_losts_33 rfl ic_1 rfl (Nat.le_of_ble_eq_true rfl) rfl ?_
        refine am_goto (tgt := 8) dX2_losts_36 rfl ?_
        exact hr4 ((s2.1 + 1), (s2.2 + 1))
def fX2_listen_L62 (s1 : (Int32 × Int32 × Int32 × am_M)) (rec2 : (Int32 × Int32 × am_M) → Option (Int32 × Int32 × am_M)) (s3 : (Int32 × Int32 × am_M)) : Option (Int32 × Int32 × am_M) :=
(if (1000 : Int32) ≤ s3.2.1 then
some (s3.1, s3.2.1, s3.2.2)
 else
(Option.bind (fX2_isLost ((s3.2.2) 1) s3.2.1) fun v4 =>
(Option.bind (if v4 = 0 then
some (s3.1, s3.2.2)
 else
(Option.bind (fX2_noteIn ((s3.2.2) 1) s3.2.1 s1.2.2.1) fun v5 =>
(Option.bind (am_rd ((s3.2.2) 1 21) 25 (v5 + (1 : Int32))) fun v6 =>
(Option.bind (am_wr s3.2.2 1 21 25 (v5 + (1 : Int32)) (v6 + (1 : Int32))) fun M7 =>
(Option.bind (am_rd (M7 1 21) 25 (v5 + (1 : Int32))) fun v8 =>
(Option.bind (if v8 ≤ s3.1 then
some s3.1
 else
(Option.bind (am_rd (M7 1 21) 25 (v5 + (1 : Int32))) fun v9 =>
some v9)) fun (x10 : Int32) =>
some (x10, M7))))))) fun (x11 : (Int32 × am_M)) =>
rec2 (x11.1, (s3.2.1 + 1), x11.2))))
def fX2_listen_L38  (rec1 : (Int32 × am_M) → Option (Int32 × am_M)) (s2 : (Int32 × am_M)) : Option (Int32 × am_M) :=
(if (25 : Int32) ≤ s2.1 then
some (s2.1, s2.2)
 else
(Option.bind (am_wr s2.2 1 21 25 s2.1 (0 : Int32)) fun M3 =>
rec1 ((s2.1 + 1), M3)))
def fX2_listen_L25  (rec1 : (Int32 × Int32 × Int32 × am_M) → Option (Int32 × Int32 × Int32 × am_M)) (s2 : (Int32 × Int32 × Int32 × am_M)) : Option (Int32 × Int32 × Int32 × am_M) :=
(if (10 : Int32) ≤ s2.2.2.1 then
some (s2.1, s2.2.1, s2.2.2.1, s2.2.2.2)
 else
(Option.bind (am_it fX2_listen_L38 am_fuel ((0 : Int32), s2.2.2.2)) fun (s3 : (Int32 × am_M)) =>
(Option.bind (am_it (fX2_listen_L62 s2) am_fuel ((0 : Int32), (0 : Int32), s3.2)) fun (s4 : (Int32 × Int32 × am_M)) =>
(Option.bind (if s4.1 ≤ 0 then
some (0 : Int32)
 else
(if s2.2.1 ≤ s4.1 then
some (0 : Int32)
 else
some (1 : Int32))) fun (x5 : Int32) =>
(Option.bind (if x5 = 0 then
some s2.1
 else
some s2.2.2.1) fun (x6 : Int32) =>
(Option.bind (if x5 = 0 then
some s2.2.1
 else
some s4.1) fun (x7 : Int32) =>
rec1 (x6, x7, (s2.2.2.1 + 1), s4.2.2)))))))
def fX2_listen (M : am_M) (a1 : Int32) : Option (Int32 × am_M) :=
(if (fX2_in a1 (0 : Int32) (1 : Int32)) = 0 then
some ((-2 : Int32), M)
 else
(Option.bind (fX2_layApart M) fun M1 =>
(Option.bind (am_it fX2_listen_L25 am_fuel ((-6 : Int32), (1000000 : Int32), (0 : Int32), M1)) fun (s6 : (Int32 × Int32 × Int32 × am_M)) =>
(if s6.1 < 0 then
some (s6.1, s6.2.2.2)
 else
(if a1 = 0 then
some (s6.1, s6.2.2.2)
 else
some (s6.2.1, s6.2.2.2))))))
set_option maxHeartbeats 4000000 in
theorem kX2_listen (G : am_G) (M : am_M) (a1 : Int32) : am_C G 4 mX2_listen [am_r 1 0, am_i a1] M (fun r => (some (am_i r.1), r.2)) (fX2_listen M a1) := by
  refine am_met (nL := 8) (ls0 := [some (am_r 1 0), some (am_i a1), none, none, none, none, none, none]) (by decide) rfl (Nat.le_of_ble_eq_true rfl) (And.intro rfl (And.intro rfl trivial)) ?_
  unfold fX2_listen
  refine am_iload_n dX2_listen_0 rfl rfl ?_
  refine am_iconst dX2_listen_1 ic_0 ?_
  refine am_iconst dX2_listen_2 ic_1 ?_
  refine am_cST lc_X2_59 (kX2_in G M a1 (0 : Int32) (1 : Int32)) rfl rfl rfl rfl rfl dX2_listen_3 ?_
  refine am_if_ne (tgt := 12) dX2_listen_6 rfl ?_ ?_
  · refine am_bipush dX2_listen_9 bp_m2 ?_
    exact am_iret dX2_listen_11 rfl rfl
  · refine am_aload_n dX2_listen_12 rfl rfl ?_
    refine am_cVU (as' := []) lc_X2_166 rfl (kX2_layApart G M) rfl rfl rfl rfl rfl rfl dX2_listen_13 (fun M1 => ?_)
    refine am_bipush dX2_listen_16 bp_m6 ?_
    refine am_istore_n [some (am_r 1 0), some (am_i a1), some (am_i (-6 : Int32)), none, none, none, none, none] dX2_listen_18 rfl rfl (Nat.le_of_ble_eq_true rfl) rfl ?_
    refine am_ldc dX2_listen_19 q787 ?_
    refine am_istore_n [some (am_r 1 0), some (am_i a1), some (am_i (-6 : Int32)), some (am_i (1000000 : Int32)), none, none, none, none] dX2_listen_21 rfl rfl (Nat.le_of_ble_eq_true rfl) rfl ?_
    refine am_iconst dX2_listen_22 ic_0 ?_
    refine am_istore [some (am_r 1 0), some (am_i a1), some (am_i (-6 : Int32)), some (am_i (1000000 : Int32)), some (am_i (0 : Int32)), none, none, none] dX2_listen_23 rfl (Nat.le_of_ble_eq_true rfl) rfl ?_
    refine am_join (β := (Int32 × Int32 × Int32 × am_M)) 182 (fun s6 => [none, some (am_i a1), some (am_i s6.1), some (am_i s6.2.1), none, none, none, none]) (fun _ => []) (fun s6 => s6.2.2.2) (fun s6 => ?_) (fun hx5 => ?_)
    · refine am_iload_n dX2_listen_182 rfl rfl ?_
      refine am_if_lt (tgt := 190) dX2_listen_183 rfl ?_ ?_
      · refine am_iload_n dX2_listen_190 rfl rfl ?_
        refine am_goto (tgt := 195) dX2_listen_191 rfl ?_
        exact am_iret dX2_listen_195 rfl rfl
      · refine am_iload_n dX2_listen_186 rfl rfl ?_
        refine am_if_ne (tgt := 194) dX2_listen_187 rfl ?_ ?_
        · refine am_iload_n dX2_listen_190 rfl rfl ?_
          refine am_goto (tgt := 195) dX2_listen_191 rfl ?_
          exact am_iret dX2_listen_195 rfl rfl
        · refine am_iload_n dX2_listen_194 rfl rfl ?_
          exact am_iret dX2_listen_195 rfl rfl
    refine am_loop (σ := (Int32 × Int32 × Int32 × am_M)) (ls' := fun s2 => [some (am_r 1 0), some (am_i a1), some (am_i s2.1), some (am_i s2.2.1), some (am_i s2.2.2.1), none, none, none]) (st' := fun _ => []) (M' := fun s2 => s2.2.2.2) (fun rec3 hr4 s2 => ?_) _ _
    unfold fX2_listen_L25
    refine am_iload dX2_listen_25 rfl ?_
    refine am_bipush dX2_listen_27 bp_10 ?_
    refine am_icmp_geB (tgt := 182) dX2_listen_29 rfl ?_ ?_
    · exact am_dr (hx5 (s2.1, s2.2.1, s2.2.2.1, s2.2.2.2)) (And.intro rfl (And.intro rfl (And.intro rfl trivial)))
    · refine am_iconst dX2_listen_32 ic_0 ?_
      refine am_istore [some (am_r 1 0), some (am_i a1), some (am_i s2.1), some (am_i s2.2.1), some (am_i s2.2.2.1), some (am_i (0 : Int32)), none, none] dX2_listen_33 rfl (Nat.le_of_ble_eq_true rfl) rfl ?_
      refine am_iconst dX2_listen_35 ic_0 ?_
      refine am_istore [some (am_r 1 0), some (am_i a1), some (am_i s2.1), some (am_i s2.2.1), some (am_i s2.2.2.1), some (am_i (0 : Int32)), some (am_i (0 : Int32)), none] dX2_listen_36 rfl (Nat.le_of_ble_eq_true rfl) rfl ?_
      refine am_as ?_
      refine am_join (β := (Int32 × am_M)) 59 (fun s11 => [some (am_r 1 0), some (am_i a1), some (am_i s2.1), some (am_i s2.2.1), some (am_i s2.2.2.1), some (am_i (0 : Int32)), none, none]) (fun _ => []) (fun s11 => s11.2) (fun s11 => ?_) (fun hx10 => ?_)
      · refine am_iconst dX2_listen_59 ic_0 ?_
        refine am_istore [some (am_r 1 0), some (am_i a1), some (am_i s2.1), some (am_i s2.2.1), some (am_i s2.2.2.1), some (am_i (0 : Int32)), some (am_i (0 : Int32)), none] dX2_listen_60 rfl (Nat.le_of_ble_eq_true rfl) rfl ?_
        refine am_as ?_
        refine am_join (β := (Int32 × Int32 × am_M)) 134 (fun s17 => [some (am_r 1 0), some (am_i a1), some (am_i s2.1), some (am_i s2.2.1), some (am_i s2.2.2.1), some (am_i s17.1), none, none]) (fun _ => []) (fun s17 => s17.2.2) (fun s17 => ?_) (fun hx16 => ?_)
        · refine am_iload dX2_listen_134 rfl ?_
          refine am_as ?_
          refine am_join (β := Int32) 150 (fun x28 => [some (am_r 1 0), some (am_i a1), some (am_i s2.1), some (am_i s2.2.1), some (am_i s2.2.2.1), some (am_i s17.1), none, none]) (fun x28 => [am_i x28]) (fun x28 => s17.2.2) (fun x28 => ?_) (fun hm29 => ?_)
          · refine am_istore [some (am_r 1 0), some (am_i a1), some (am_i s2.1), some (am_i s2.2.1), some (am_i s2.2.2.1), some (am_i s17.1), some (am_i x28), none] dX2_listen_150 rfl (Nat.le_of_ble_eq_true rfl) rfl ?_
            refine am_iload dX2_listen_152 rfl ?_
            refine am_as ?_
            refine am_join (β := Int32) 163 (fun x30 => [some (am_r 1 0), some (am_i a1), some (am_i s2.1), some (am_i s2.2.1), some (am_i s2.2.2.1), some (am_i s17.1), some (am_i x28), none]) (fun x30 => [am_i x30]) (fun x30 => s17.2.2) (fun x30 => ?_) (fun hm31 => ?_)
            · refine am_istore_n [some (am_r 1 0), some (am_i a1), some (am_i x30), some (am_i s2.2.1), some (am_i s2.2.2.1), some (am_i s17.1), some (am_i x28), none] dX2_listen_163 rfl rfl (Nat.le_of_ble_eq_true rfl) rfl ?_
              refine am_iload dX2_listen_164 rfl ?_
              refine am_as ?_
              refine am_join (β := Int32) 175 (fun x32 => [some (am_r 1 0), some (am_i a1), some (am_i x30), some (am_i s2.2.1), some (am_i s2.2.2.1), some (am_i s17.1), some (am_i x28), none]) (fun x32 => [am_i x32]) (fun x32 => s17.2.2) (fun x32 => ?_) (fun hm33 => ?_)
              · refine am_istore_n [some (am_r 1 0), some (am_i a1), some (am_i x30), some (am_i x32), some (am_i s2.2.2.1), some (am_i s17.1), some (am_i x28), none] dX2_listen_175 rfl rfl (Nat.le_of_ble_eq_true rfl) rfl ?_
                refine am_iinc [some (am_r 1 0), some (am_i a1), some (am_i x30), some (am_i x32), some (am_i (s2.2.2.1 + 1)), some (am_i s17.1), some (am_i x28), none] dX2_listen_176 rfl ic_1 rfl (Nat.le_of_ble_eq_true rfl) rfl ?_
                refine am_goto (tgt := 25) dX2_listen_179 rfl ?_
                exact am_dr (hr4 (x30, x32, (s2.2.2.1 + 1), s17.2.2)) (And.intro rfl (And.intro rfl (And.intro rfl (And.intro rfl (And.intro rfl trivial)))))
              refine am_if_eqB (tgt := 174) dX2_listen_166 rfl ?_ ?_
              · refine am_iload_n dX2_listen_174 rfl rfl ?_
                exact hm33 s2.2.1
              · refine am_iload dX2_listen_169 rfl ?_
                refine am_goto (tgt := 175) dX2_listen_171 rfl ?_
                exact hm33 s17.1
            refine am_if_eqB (tgt := 162) dX2_listen_154 rfl ?_ ?_
            · refine am_iload_n dX2_listen_162 rfl rfl ?_
              exact hm31 s2.1
            · refine am_iload dX2_listen_157 rfl ?_
              refine am_goto (tgt := 163) dX2_listen_159 rfl ?_
              exact hm31 s2.2.2.1
          refine am_if_leB (tgt := 149) dX2_listen_136 rfl ?_ ?_
          · refine am_iconst dX2_listen_149 ic_0 ?_
            exact hm29 (0 : Int32)
          · refine am_iload dX2_listen_139 rfl ?_
            refine am_iload_n dX2_listen_141 rfl rfl ?_
            refine am_icmp_geB (tgt := 149) dX2_listen_142 rfl ?_ ?_
            · refine am_iconst dX2_listen_149 ic_0 ?_
              exact hm29 (0 : Int32)
            · refine am_iconst dX2_listen_145 ic_1 ?_
              refine am_goto (tgt := 150) dX2_listen_146 rfl ?_
              exact hm29 (1 : Int32)
        refine am_loop (σ := (Int32 × Int32 × am_M)) (ls' := fun s13 => [some (am_r 1 0), some (am_i a1), some (am_i s2.1), some (am_i s2.2.1), some (am_i s2.2.2.1), some (am_i s13.1), some (am_i s13.2.1), none]) (st' := fun _ => []) (M' := fun s13 => s13.2.2) (fun rec14 hr15 s13 => ?_) _ _
        unfold fX2_listen_L62
        refine am_iload dX2_listen_62 rfl ?_
        refine am_sipush dX2_listen_64 sp_1000 ?_
        refine am_icmp_geB (tgt := 134) dX2_listen_67 rfl ?_ ?_
        · exact am_dr (hx16 (s13.1, s13.2.1, s13.2.2)) (And.intro rfl (And.intro rfl (And.intro rfl (And.intro rfl (And.intro rfl (And.intro rfl trivial))))))
        · refine am_aload_n dX2_listen_70 rfl rfl ?_
          refine am_iload dX2_listen_71 rfl ?_
          refine am_as ?_
          refine am_cVI (as' := [am_i s13.2.1]) lc_X2_169 rfl (kX2_isLost G s13.2.2 s13.2.1) rfl rfl rfl rfl rfl rfl dX2_listen_73 (fun v18 => ?_)
          refine am_as ?_
          refine am_join (β := (Int32 × am_M)) 128 (fun x19 => [some (am_r 1 0), some (am_i a1), some (am_i s2.1), some (am_i s2.2.1), some (am_i s2.2.2.1), some (am_i x19.1), some (am_i s13.2.1), none]) (fun x19 => []) (fun x19 => x19.2) (fun x19 => ?_) (fun hm20 => ?_)
          · refine am_iinc [some (am_r 1 0), some (am_i a1), some (am_i s2.1), some (am_i s2.2.1), some (am_i s2.2.2.1), some (am_i x19.1), some (am_i (s13.2.1 + 1)), none] dX2_listen_128 rfl ic_1 rfl (Nat.le_of_ble_eq_true rfl) rfl ?_
            refine am_goto (tgt := 62) dX2_listen_131 rfl ?_
            exact hr15 (x19.1, (s13.2.1 + 1), x19.2)
          refine am_if_eqB (tgt := 128) dX2_listen_76 rfl ?_ ?_
          · exact hm20 (s13.1, s13.2.2)
          · refine am_aload_n dX2_listen_79 rfl rfl ?_
            refine am_iload dX2_listen_80 rfl ?_
            refine am_iload dX2_listen_82 rfl ?_
            refine am_as ?_
            refine am_cVI (as' := [am_i s13.2.1, am_i s2.2.2.1]) lc_X2_163 rfl (kX2_noteIn G s13.2.2 s13.2.1 s2.2.2.1) rfl rfl rfl rfl rfl rfl dX2_listen_84 (fun v21 => ?_)
            refine am_iconst dX2_listen_87 ic_1 ?_
            refine am_iadd dX2_listen_88 ?_
            refine am_istore [some (am_r 1 0), some (am_i a1), some (am_i s2.1), some (am_i s2.2.1), some (am_i s2.2.2.1), some (am_i s13.1), some (am_i s13.2.1), some (am_i (v21 + (1 : Int32)))] dX2_listen_89 rfl (Nat.le_of_ble_eq_true rfl) rfl ?_
            refine am_aload_n dX2_listen_91 rfl rfl ?_
            refine am_getA lf_X2_50 rfl rfl dX2_listen_92 ?_
            refine am_iload dX2_listen_95 rfl ?_
            refine am_dup2 dX2_listen_97 rfl rfl ?_
            refine am_as ?_
            refine am_iald (β := Unit) rfl dX2_listen_98 (fun v22 => ?_)
            refine am_iconst dX2_listen_99 ic_1 ?_
            refine am_iadd dX2_listen_100 ?_
            refine am_as ?_
            refine am_iast rfl dX2_listen_101 (fun M23 => ?_)
            refine am_aload_n dX2_listen_102 rfl rfl ?_
            refine am_getA lf_X2_50 rfl rfl dX2_listen_103 ?_
            refine am_iload dX2_listen_106 rfl ?_
            refine am_as ?_
            refine am_iald (β := Unit) rfl dX2_listen_108 (fun v24 => ?_)
            refine am_iload dX2_listen_109 rfl ?_
            refine am_as ?_
            refine am_join (β := Int32) 126 (fun x25 => [some (am_r 1 0), some (am_i a1), some (am_i s2.1), some (am_i s2.2.1), some (am_i s2.2.2.1), some (am_i s13.1), some (am_i s13.2.1), some (am_i (v21 + (1 : Int32)))]) (fun x25 => [am_i x25]) (fun x25 => M23) (fun x25 => ?_) (fun hm26 => ?_)
            · refine am_istore [some (am_r 1 0), some (am_i a1), some (am_i s2.1), some (am_i s2.2.1), some (am_i s2.2.2.1), some (am_i x25), some (am_i s13.2.1), some (am_i (v21 + (1 : Int32)))] dX2_listen_126 rfl (Nat.le_of_ble_eq_true rfl) rfl ?_
              exact am_dr (hm20 (x25, M23)) (And.intro rfl (And.intro rfl (And.intro rfl (And.intro rfl (And.intro rfl (And.intro rfl (And.intro rfl trivial)))))))
            refine am_icmp_leB (tgt := 124) dX2_listen_111 rfl ?_ ?_
            · refine am_iload dX2_listen_124 rfl ?_
              exact hm26 s13.1
            · refine am_aload_n dX2_listen_114 rfl rfl ?_
              refine am_getA lf_X2_50 rfl rfl dX2_listen_115 ?_
              refine am_iload dX2_listen_118 rfl ?_
              refine am_as ?_
              refine am_iald (β := Unit) rfl dX2_listen_120 (fun v27 => ?_)
              refine am_goto (tgt := 126) dX2_listen_121 rfl ?_
              exact hm26 v27
      refine am_loop (σ := (Int32 × am_M)) (ls' := fun s7 => [some (am_r 1 0), some (am_i a1), some (am_i s2.1), some (am_i s2.2.1), some (am_i s2.2.2.1), some (am_i (0 : Int32)), some (am_i s7.1), none]) (st' := fun _ => []) (M' := fun s7 => s7.2) (fun rec8 hr9 s7 => ?_) _ _
      unfold fX2_listen_L38
      refine am_iload dX2_listen_38 rfl ?_
      refine am_bipush dX2_listen_40 bp_25 ?_
      refine am_icmp_geB (tgt := 59) dX2_listen_42 rfl ?_ ?_
      · exact am_dr (hx10 (s7.1, s7.2)) (And.intro rfl (And.intro rfl (And.intro rfl (And.intro rfl (And.intro rfl (And.intro rfl trivial))))))
      · refine am_aload_n dX2_listen_45 rfl rfl ?_
        refine am_getA lf_X2_50 rfl rfl dX2_listen_46 ?_
        refine am_iload dX2_listen_49 rfl ?_
        refine am_iconst dX2_listen_51 ic_0 ?_
        refine am_as ?_
        refine am_iast rfl dX2_listen_52 (fun M12 => ?_)
        refine am_iinc [some (am_r 1 0), some (am_i a1), some (am_i s2.1), some (am_i s2.2.1), some (am_i s2.2.2.1), some (am_i (0 : Int32)), some (am_i (s7.1 + 1)), none] dX2_listen_53 rfl ic_1 rfl (Nat.le_of_ble_eq_true rfl) rfl ?_
        refine am_goto (tgt := 38) dX2_listen_56 rfl ?_
        exact hr9 ((s7.1 + 1), M12)
def fX2_power_L5 (a0 : Int64) (a1 : Int32) (rec1 : (Int64 × Int32) → Option (Int64 × Int32)) (s2 : (Int64 × Int32)) : Option (Int64 × Int32) :=
(if a1 ≤ s2.2 then
some (s2.1, s2.2)
 else
rec1 ((s2.1 * a0), (s2.2 + 1)))
def fX2_power (a0 : Int64) (a1 : Int32) : Option Int64 :=
(Option.bind (am_it (fX2_power_L5 a0 a1) am_fuel ((1 : Int64), (0 : Int32))) fun (s5 : (Int64 × Int32)) =>
some s5.1)
set_option maxHeartbeats 4000000 in
theorem kX2_power (G : am_G) (M : am_M) (a0 : Int64) (a1 : Int32) : am_C G 1 mX2_power [am_l a0, am_i a1] M (fun r => (some (am_l r), M)) (fX2_power a0 a1) := by
  refine am_met (nL := 6) (ls0 := [some (am_l a0), none, some (am_i a1), none, none, none]) (by decide) rfl (Nat.le_of_ble_eq_true rfl) (And.intro rfl (And.intro rfl trivial)) ?_
  unfold fX2_power
  refine am_lconst (v := 1) dX2_power_0 rfl ?_
  refine am_lstore_n [some (am_l a0), none, some (am_i a1), some (am_l (1 : Int64)), none, none] dX2_power_1 rfl rfl (Nat.le_of_ble_eq_true rfl) rfl ?_
  refine am_iconst dX2_power_2 ic_0 ?_
  refine am_istore [some (am_l a0), none, some (am_i a1), some (am_l (1 : Int64)), none, some (am_i (0 : Int32))] dX2_power_3 rfl (Nat.le_of_ble_eq_true rfl) rfl ?_
  refine am_join (β := (Int64 × Int32)) 21 (fun s5 => [none, none, none, some (am_l s5.1), none, none]) (fun _ => []) (fun s5 => M) (fun s5 => ?_) (fun hx4 => ?_)
  · refine am_lload_n dX2_power_21 rfl rfl ?_
    exact am_lret dX2_power_22 rfl rfl
  refine am_loop (σ := (Int64 × Int32)) (ls' := fun s1 => [some (am_l a0), none, some (am_i a1), some (am_l s1.1), none, some (am_i s1.2)]) (st' := fun _ => []) (M' := fun s1 => M) (fun rec2 hr3 s1 => ?_) _ _
  unfold fX2_power_L5
  refine am_iload dX2_power_5 rfl ?_
  refine am_iload_n dX2_power_7 rfl rfl ?_
  refine am_icmp_geB (tgt := 21) dX2_power_8 rfl ?_ ?_
  · exact am_dr (hx4 (s1.1, s1.2)) (And.intro rfl trivial)
  · refine am_lload_n dX2_power_11 rfl rfl ?_
    refine am_lload_n dX2_power_12 rfl rfl ?_
    refine am_lmul dX2_power_13 ?_
    refine am_lstore_n [some (am_l a0), none, some (am_i a1), some (am_l (s1.1 * a0)), none, some (am_i s1.2)] dX2_power_14 rfl rfl (Nat.le_of_ble_eq_true rfl) rfl ?_
    refine am_iinc [some (am_l a0), none, some (am_i a1), some (am_l (s1.1 * a0)), none, some (am_i (s1.2 + 1))] dX2_power_15 rfl ic_1 rfl (Nat.le_of_ble_eq_true rfl) rfl ?_
    refine am_goto (tgt := 5) dX2_power_18 rfl ?_
    exact hr3 ((s1.1 * a0), (s1.2 + 1))
def fX2_cold_L187  (rec1 : (Int64 × Int64) → Option (Int64 × Int64)) (s2 : (Int64 × Int64)) : Option (Int64 × Int64) :=
(if (lg_cmp s2.2 (0 : Int64)) = 0 then
some (s2.1, s2.2)
 else
(if s2.2 = 0 then none else rec1 (s2.2, (jv_lrem s2.1 s2.2))))
def fX2_cold_L65 (a1 : Int32) (M1 : am_M) (rec2 : (Int32 × Int32) → Option (Int32 × Int32)) (s3 : (Int32 × Int32)) : Option (Int32 × Int32) :=
(if (8 : Int32) ≤ s3.2 then
some (s3.1, s3.2)
 else
(Option.bind (fX2_sings (M1 1) s3.2 a1) fun v4 =>
(Option.bind (if v4 = 0 then
some (0 : Int32)
 else
some (1 : Int32)) fun (x5 : Int32) =>
rec2 ((s3.1 + x5), (s3.2 + 1)))))
def fX2_cold (M : am_M) (a1 : Int32) (a2 : Int32) (a3 : Int32) (a4 : Int32) (a5 : Int32) : Option (Int64 × am_M) :=
(if (fX2_isGallery a1) = 0 then
some ((-1000000000000000001 : Int64), M)
 else
(if (fX2_in a2 (0 : Int32) (10 : Int32)) = 0 then
some ((-1000000000000000002 : Int64), M)
 else
(if (fX2_in a3 (0 : Int32) (9 : Int32)) = 0 then
some ((-1000000000000000002 : Int64), M)
 else
(if (fX2_in a4 (0 : Int32) (1 : Int32)) = 0 then
some ((-1000000000000000002 : Int64), M)
 else
(if (fX2_in a5 (0 : Int32) (1 : Int32)) = 0 then
some ((-1000000000000000002 : Int64), M)
 else
(Option.bind (fX2_asNow M) fun M1 =>
(Option.bind (am_it (fX2_cold_L65 a1 M1) am_fuel ((0 : Int32), (0 : Int32))) fun (s6 : (Int32 × Int32)) =>
(if a4 = 0 then
(if (a3 * s6.1) ≤ (18 : Int32) then
(Option.bind (fX2_power (10 : Int64) a3) fun v10 =>
(Option.bind (fX2_power ((10 : Int64) - ((a2).toInt64)) a3) fun v11 =>
(Option.bind (if a4 = 0 then
(Option.bind (fX2_power v10 s6.1) fun v14 =>
(Option.bind (fX2_power (v10 - v11) s6.1) fun v15 =>
(Option.bind (fX2_power v10 s6.1) fun v16 =>
some (v16, (v14 - v15)))))
 else
some (v10, (((s6.1).toInt64) * v11))) fun (x12 : (Int64 × Int64)) =>
(Option.bind (am_it fX2_cold_L187 am_fuel (x12.2, x12.1)) fun (s21 : (Int64 × Int64)) =>
(if a5 = 0 then
(if s21.1 = 0 then none else some ((x12.2 / s21.1), M1))
 else
(if s21.1 = 0 then none else some ((x12.1 / s21.1), M1)))))))
 else
some ((-1000000000000000003 : Int64), M1))
 else
(Option.bind (fX2_power (10 : Int64) a3) fun v25 =>
(Option.bind (fX2_power ((10 : Int64) - ((a2).toInt64)) a3) fun v26 =>
(Option.bind (if a4 = 0 then
(Option.bind (fX2_power v25 s6.1) fun v29 =>
(Option.bind (fX2_power (v25 - v26) s6.1) fun v30 =>
(Option.bind (fX2_power v25 s6.1) fun v31 =>
some (v31, (v29 - v30)))))
 else
some (v25, (((s6.1).toInt64) * v26))) fun (x27 : (Int64 × Int64)) =>
(Option.bind (am_it fX2_cold_L187 am_fuel (x27.2, x27.1)) fun (s36 : (Int64 × Int64)) =>
(if a5 = 0 then
(if s36.1 = 0 then none else some ((x27.2 / s36.1), M1))
 else
(if s36.1 = 0 then none else some ((x27.1 / s36.1), M1)))))))))))))))
set_option maxHeartbeats 4000000 in
theorem kX2_cold (G : am_G) (M : am_M) (a1 : Int32) (a2 : Int32) (a3 : Int32) (a4 : Int32) (a5 : Int32) : am_C G 4 mX2_cold [am_r 1 0, am_i a1, am_i a2, am_i a3, am_i a4, am_i a5] M (fun r => (some (am_l r.1), r.2)) (fX2_cold M a1 a2 a3 a4 a5) := by
  refine am_met (nL := 19) (ls0 := [some (am_r 1 0), some (am_i a1), some (am_i a2), some (am_i a3), some (am_i a4), some (am_i a5), none, none, none, none, none, none, none, none, none, none, none, none, none]) (by decide) rfl (Nat.le_of_ble_eq_true rfl) (And.intro rfl (And.intro rfl (And.intro rfl (And.intro rfl (And.intro rfl (And.intro rfl trivial)))))) ?_
  unfold fX2_cold
  refine am_iload_n dX2_cold_0 rfl rfl ?_
  refine am_cST lc_X2_71 (kX2_isGallery G M a1) rfl rfl rfl rfl rfl dX2_cold_1 ?_
  refine am_if_ne (tgt := 11) dX2_cold_4 rfl ?_ ?_
  · refine am_ldc2 dX2_cold_7 q850 ?_
    exact am_lret dX2_cold_10 rfl rfl
  · refine am_iload_n dX2_cold_11 rfl rfl ?_
    refine am_iconst dX2_cold_12 ic_0 ?_
    refine am_bipush dX2_cold_13 bp_10 ?_
    refine am_cST lc_X2_59 (kX2_in G M a2 (0 : Int32) (10 : Int32)) rfl rfl rfl rfl rfl dX2_cold_15 ?_
    refine am_if_eq (tgt := 51) dX2_cold_18 rfl ?_ ?_
    · refine am_ldc2 dX2_cold_51 q851 ?_
      exact am_lret dX2_cold_54 rfl rfl
    · refine am_iload_n dX2_cold_21 rfl rfl ?_
      refine am_iconst dX2_cold_22 ic_0 ?_
      refine am_bipush dX2_cold_23 bp_9 ?_
      refine am_cST lc_X2_59 (kX2_in G M a3 (0 : Int32) (9 : Int32)) rfl rfl rfl rfl rfl dX2_cold_25 ?_
      refine am_if_eq (tgt := 51) dX2_cold_28 rfl ?_ ?_
      · refine am_ldc2 dX2_cold_51 q851 ?_
        exact am_lret dX2_cold_54 rfl rfl
      · refine am_iload dX2_cold_31 rfl ?_
        refine am_iconst dX2_cold_33 ic_0 ?_
        refine am_iconst dX2_cold_34 ic_1 ?_
        refine am_cST lc_X2_59 (kX2_in G M a4 (0 : Int32) (1 : Int32)) rfl rfl rfl rfl rfl dX2_cold_35 ?_
        refine am_if_eq (tgt := 51) dX2_cold_38 rfl ?_ ?_
        · refine am_ldc2 dX2_cold_51 q851 ?_
          exact am_lret dX2_cold_54 rfl rfl
        · refine am_iload dX2_cold_41 rfl ?_
          refine am_iconst dX2_cold_43 ic_0 ?_
          refine am_iconst dX2_cold_44 ic_1 ?_
          refine am_cST lc_X2_59 (kX2_in G M a5 (0 : Int32) (1 : Int32)) rfl rfl rfl rfl rfl dX2_cold_45 ?_
          refine am_if_ne (tgt := 55) dX2_cold_48 rfl ?_ ?_
          · refine am_ldc2 dX2_cold_51 q851 ?_
            exact am_lret dX2_cold_54 rfl rfl
          · refine am_aload_n dX2_cold_55 rfl rfl ?_
            refine am_cVU (as' := []) lc_X2_110 rfl (kX2_asNow G M) rfl rfl rfl rfl rfl rfl dX2_cold_56 (fun M1 => ?_)
            refine am_iconst dX2_cold_59 ic_0 ?_
            refine am_istore [some (am_r 1 0), some (am_i a1), some (am_i a2), some (am_i a3), some (am_i a4), some (am_i a5), some (am_i (0 : Int32)), none, none, none, none, none, none, none, none, none, none, none, none] dX2_cold_60 rfl (Nat.le_of_ble_eq_true rfl) rfl ?_
            refine am_iconst dX2_cold_62 ic_0 ?_
            refine am_istore [some (am_r 1 0), some (am_i a1), some (am_i a2), some (am_i a3), some (am_i a4), some (am_i a5), some (am_i (0 : Int32)), some (am_i (0 : Int32)), none, none, none, none, none, none, none, none, none, none, none] dX2_cold_63 rfl (Nat.le_of_ble_eq_true rfl) rfl ?_
            refine am_join (β := (Int32 × Int32)) 98 (fun s6 => [none, none, some (am_i a2), some (am_i a3), some (am_i a4), some (am_i a5), some (am_i s6.1), none, none, none, none, none, none, none, none, none, none, none, none]) (fun _ => []) (fun s6 => M1) (fun s6 => ?_) (fun hx5 => ?_)
            · refine am_iload dX2_cold_98 rfl ?_
              refine am_if_ne (tgt := 116) dX2_cold_100 rfl ?_ ?_
              · refine am_iload_n dX2_cold_103 rfl rfl ?_
                refine am_iload dX2_cold_104 rfl ?_
                refine am_imul dX2_cold_106 ?_
                refine am_bipush dX2_cold_107 bp_18 ?_
                refine am_icmp_le (tgt := 116) dX2_cold_109 rfl ?_ ?_
                · refine am_ldc2 dX2_cold_116 q853 ?_
                  refine am_iload_n dX2_cold_119 rfl rfl ?_
                  refine am_cSL lc_X2_180 (kX2_power G M1 (10 : Int64) a3) rfl rfl rfl rfl rfl dX2_cold_120 (fun v10 => ?_)
                  refine am_lstore [none, none, some (am_i a2), some (am_i a3), some (am_i a4), some (am_i a5), some (am_i s6.1), some (am_l v10), none, none, none, none, none, none, none, none, none, none, none] dX2_cold_123 rfl (Nat.le_of_ble_eq_true rfl) rfl ?_
                  refine am_ldc2 dX2_cold_125 q853 ?_
                  refine am_iload_n dX2_cold_128 rfl rfl ?_
                  refine am_i2l dX2_cold_129 ?_
                  refine am_lsub dX2_cold_130 ?_
                  refine am_iload_n dX2_cold_131 rfl rfl ?_
                  refine am_cSL lc_X2_180 (kX2_power G M1 ((10 : Int64) - ((a2).toInt64)) a3) rfl rfl rfl rfl rfl dX2_cold_132 (fun v11 => ?_)
                  refine am_lstore [none, none, some (am_i a2), some (am_i a3), some (am_i a4), some (am_i a5), some (am_i s6.1), some (am_l v10), none, some (am_l v11), none, none, none, none, none, none, none, none, none] dX2_cold_135 rfl (Nat.le_of_ble_eq_true rfl) rfl ?_
                  refine am_iload dX2_cold_137 rfl ?_
                  refine am_i2l dX2_cold_139 ?_
                  refine am_lload dX2_cold_140 rfl ?_
                  refine am_lmul dX2_cold_142 ?_
                  refine am_lstore [none, none, some (am_i a2), some (am_i a3), some (am_i a4), some (am_i a5), some (am_i s6.1), some (am_l v10), none, some (am_l v11), none, some (am_l (((s6.1).toInt64) * v11)), none, none, none, none, none, none, none] dX2_cold_143 rfl (Nat.le_of_ble_eq_true rfl) rfl ?_
                  refine am_iload dX2_cold_145 rfl ?_
                  refine am_join (β := (Int64 × Int64)) 179 (fun x12 => [none, none, some (am_i a2), some (am_i a3), some (am_i a4), some (am_i a5), some (am_i s6.1), some (am_l x12.1), none, some (am_l v11), none, some (am_l x12.2), none, none, none, none, none, none, none]) (fun x12 => []) (fun x12 => M1) (fun x12 => ?_) (fun hm13 => ?_)
                  · refine am_lload dX2_cold_179 rfl ?_
                    refine am_lstore [none, none, some (am_i a2), some (am_i a3), some (am_i a4), some (am_i a5), some (am_i s6.1), some (am_l x12.1), none, some (am_l v11), none, some (am_l x12.2), none, some (am_l x12.2), none, none, none, none, none] dX2_cold_181 rfl (Nat.le_of_ble_eq_true rfl) rfl ?_
                    refine am_lload dX2_cold_183 rfl ?_
                    refine am_lstore [none, none, some (am_i a2), some (am_i a3), some (am_i a4), some (am_i a5), some (am_i s6.1), some (am_l x12.1), none, some (am_l v11), none, some (am_l x12.2), none, some (am_l x12.2), none, some (am_l x12.1), none, none, none] dX2_cold_185 rfl (Nat.le_of_ble_eq_true rfl) rfl ?_
                    refine am_join (β := (Int64 × Int64)) 212 (fun s21 => [none, none, none, none, none, some (am_i a5), none, some (am_l x12.1), none, none, none, some (am_l x12.2), none, some (am_l s21.1), none, none, none, none, none]) (fun _ => []) (fun s21 => M1) (fun s21 => ?_) (fun hx20 => ?_)
                    · refine am_iload dX2_cold_212 rfl ?_
                      refine am_if_ne (tgt := 225) dX2_cold_214 rfl ?_ ?_
                      · refine am_lload dX2_cold_217 rfl ?_
                        refine am_lload dX2_cold_219 rfl ?_
                        refine am_grd (fun h23 => ?_)
                        refine am_ldiv dX2_cold_221 h23 ?_
                        refine am_goto (tgt := 230) dX2_cold_222 rfl ?_
                        exact am_lret dX2_cold_230 rfl rfl
                      · refine am_lload dX2_cold_225 rfl ?_
                        refine am_lload dX2_cold_227 rfl ?_
                        refine am_grd (fun h24 => ?_)
                        refine am_ldiv dX2_cold_229 h24 ?_
                        exact am_lret dX2_cold_230 rfl rfl
                    refine am_drop (ls' := [none, none, none, none, none, some (am_i a5), none, some (am_l x12.1), none, none, none, some (am_l x12.2), none, some (am_l x12.2), none, some (am_l x12.1), none, none, none]) (And.intro rfl (And.intro rfl (And.intro rfl (And.intro rfl (And.intro rfl trivial))))) ?_
                    refine am_loop (σ := (Int64 × Int64)) (ls' := fun s17 => [none, none, none, none, none, some (am_i a5), none, some (am_l x12.1), none, none, none, some (am_l x12.2), none, some (am_l s17.1), none, some (am_l s17.2), none, none, none]) (st' := fun _ => []) (M' := fun s17 => M1) (fun rec18 hr19 s17 => ?_) _ _
                    unfold fX2_cold_L187
                    refine am_lload dX2_cold_187 rfl ?_
                    refine am_lconst (v := 0) dX2_cold_189 rfl ?_
                    refine am_lcmp dX2_cold_190 ?_
                    refine am_if_eqB (tgt := 212) dX2_cold_191 rfl ?_ ?_
                    · exact am_dr (hx20 (s17.1, s17.2)) (And.intro rfl (And.intro rfl (And.intro rfl (And.intro rfl trivial))))
                    · refine am_lload dX2_cold_194 rfl ?_
                      refine am_lload dX2_cold_196 rfl ?_
                      refine am_grdB (fun h22 => ?_)
                      refine am_lrem dX2_cold_198 h22 ?_
                      refine am_lstore [none, none, none, none, none, some (am_i a5), none, some (am_l x12.1), none, none, none, some (am_l x12.2), none, some (am_l s17.1), none, some (am_l s17.2), none, some (am_l (jv_lrem s17.1 s17.2)), none] dX2_cold_199 rfl (Nat.le_of_ble_eq_true rfl) rfl ?_
                      refine am_lload dX2_cold_201 rfl ?_
                      refine am_lstore [none, none, none, none, none, some (am_i a5), none, some (am_l x12.1), none, none, none, some (am_l x12.2), none, some (am_l s17.2), none, some (am_l s17.2), none, some (am_l (jv_lrem s17.1 s17.2)), none] dX2_cold_203 rfl (Nat.le_of_ble_eq_true rfl) rfl ?_
                      refine am_lload dX2_cold_205 rfl ?_
                      refine am_lstore [none, none, none, none, none, some (am_i a5), none, some (am_l x12.1), none, none, none, some (am_l x12.2), none, some (am_l s17.2), none, some (am_l (jv_lrem s17.1 s17.2)), none, some (am_l (jv_lrem s17.1 s17.2)), none] dX2_cold_207 rfl (Nat.le_of_ble_eq_true rfl) rfl ?_
                      refine am_goto (tgt := 187) dX2_cold_209 rfl ?_
                      exact am_dr (hr19 (s17.2, (jv_lrem s17.1 s17.2))) (And.intro rfl (And.intro rfl (And.intro rfl (And.intro rfl (And.intro rfl trivial)))))
                  refine am_if_neB (tgt := 179) dX2_cold_147 rfl ?_ ?_
                  · refine am_lload dX2_cold_150 rfl ?_
                    refine am_iload dX2_cold_152 rfl ?_
                    refine am_as ?_
                    refine am_cSL lc_X2_180 (kX2_power G M1 v10 s6.1) rfl rfl rfl rfl rfl dX2_cold_154 (fun v14 => ?_)
                    refine am_lload dX2_cold_157 rfl ?_
                    refine am_lload dX2_cold_159 rfl ?_
                    refine am_lsub dX2_cold_161 ?_
                    refine am_iload dX2_cold_162 rfl ?_
                    refine am_as ?_
                    refine am_cSL lc_X2_180 (kX2_power G M1 (v10 - v11) s6.1) rfl rfl rfl rfl rfl dX2_cold_164 (fun v15 => ?_)
                    refine am_lsub dX2_cold_167 ?_
                    refine am_lstore [none, none, some (am_i a2), some (am_i a3), some (am_i a4), some (am_i a5), some (am_i s6.1), some (am_l v10), none, some (am_l v11), none, some (am_l (v14 - v15)), none, none, none, none, none, none, none] dX2_cold_168 rfl (Nat.le_of_ble_eq_true rfl) rfl ?_
                    refine am_lload dX2_cold_170 rfl ?_
                    refine am_iload dX2_cold_172 rfl ?_
                    refine am_as ?_
                    refine am_cSL lc_X2_180 (kX2_power G M1 v10 s6.1) rfl rfl rfl rfl rfl dX2_cold_174 (fun v16 => ?_)
                    refine am_lstore [none, none, some (am_i a2), some (am_i a3), some (am_i a4), some (am_i a5), some (am_i s6.1), some (am_l v16), none, some (am_l v11), none, some (am_l (v14 - v15)), none, none, none, none, none, none, none] dX2_cold_177 rfl (Nat.le_of_ble_eq_true rfl) rfl ?_
                    exact hm13 (v16, (v14 - v15))
                  · exact hm13 (v10, (((s6.1).toInt64) * v11))
                · refine am_ldc2 dX2_cold_112 q852 ?_
                  exact am_lret dX2_cold_115 rfl rfl
              · refine am_ldc2 dX2_cold_116 q853 ?_
                refine am_iload_n dX2_cold_119 rfl rfl ?_
                refine am_cSL lc_X2_180 (kX2_power G M1 (10 : Int64) a3) rfl rfl rfl rfl rfl dX2_cold_120 (fun v25 => ?_)
                refine am_lstore [none, none, some (am_i a2), some (am_i a3), some (am_i a4), some (am_i a5), some (am_i s6.1), some (am_l v25), none, none, none, none, none, none, none, none, none, none, none] dX2_cold_123 rfl (Nat.le_of_ble_eq_true rfl) rfl ?_
                refine am_ldc2 dX2_cold_125 q853 ?_
                refine am_iload_n dX2_cold_128 rfl rfl ?_
                refine am_i2l dX2_cold_129 ?_
                refine am_lsub dX2_cold_130 ?_
                refine am_iload_n dX2_cold_131 rfl rfl ?_
                refine am_cSL lc_X2_180 (kX2_power G M1 ((10 : Int64) - ((a2).toInt64)) a3) rfl rfl rfl rfl rfl dX2_cold_132 (fun v26 => ?_)
                refine am_lstore [none, none, some (am_i a2), some (am_i a3), some (am_i a4), some (am_i a5), some (am_i s6.1), some (am_l v25), none, some (am_l v26), none, none, none, none, none, none, none, none, none] dX2_cold_135 rfl (Nat.le_of_ble_eq_true rfl) rfl ?_
                refine am_iload dX2_cold_137 rfl ?_
                refine am_i2l dX2_cold_139 ?_
                refine am_lload dX2_cold_140 rfl ?_
                refine am_lmul dX2_cold_142 ?_
                refine am_lstore [none, none, some (am_i a2), some (am_i a3), some (am_i a4), some (am_i a5), some (am_i s6.1), some (am_l v25), none, some (am_l v26), none, some (am_l (((s6.1).toInt64) * v26)), none, none, none, none, none, none, none] dX2_cold_143 rfl (Nat.le_of_ble_eq_true rfl) rfl ?_
                refine am_iload dX2_cold_145 rfl ?_
                refine am_join (β := (Int64 × Int64)) 179 (fun x27 => [none, none, some (am_i a2), some (am_i a3), some (am_i a4), some (am_i a5), some (am_i s6.1), some (am_l x27.1), none, some (am_l v26), none, some (am_l x27.2), none, none, none, none, none, none, none]) (fun x27 => []) (fun x27 => M1) (fun x27 => ?_) (fun hm28 => ?_)
                · refine am_lload dX2_cold_179 rfl ?_
                  refine am_lstore [none, none, some (am_i a2), some (am_i a3), some (am_i a4), some (am_i a5), some (am_i s6.1), some (am_l x27.1), none, some (am_l v26), none, some (am_l x27.2), none, some (am_l x27.2), none, none, none, none, none] dX2_cold_181 rfl (Nat.le_of_ble_eq_true rfl) rfl ?_
                  refine am_lload dX2_cold_183 rfl ?_
                  refine am_lstore [none, none, some (am_i a2), some (am_i a3), some (am_i a4), some (am_i a5), some (am_i s6.1), some (am_l x27.1), none, some (am_l v26), none, some (am_l x27.2), none, some (am_l x27.2), none, some (am_l x27.1), none, none, none] dX2_cold_185 rfl (Nat.le_of_ble_eq_true rfl) rfl ?_
                  refine am_join (β := (Int64 × Int64)) 212 (fun s36 => [none, none, none, none, none, some (am_i a5), none, some (am_l x27.1), none, none, none, some (am_l x27.2), none, some (am_l s36.1), none, none, none, none, none]) (fun _ => []) (fun s36 => M1) (fun s36 => ?_) (fun hx35 => ?_)
                  · refine am_iload dX2_cold_212 rfl ?_
                    refine am_if_ne (tgt := 225) dX2_cold_214 rfl ?_ ?_
                    · refine am_lload dX2_cold_217 rfl ?_
                      refine am_lload dX2_cold_219 rfl ?_
                      refine am_grd (fun h38 => ?_)
                      refine am_ldiv dX2_cold_221 h38 ?_
                      refine am_goto (tgt := 230) dX2_cold_222 rfl ?_
                      exact am_lret dX2_cold_230 rfl rfl
                    · refine am_lload dX2_cold_225 rfl ?_
                      refine am_lload dX2_cold_227 rfl ?_
                      refine am_grd (fun h39 => ?_)
                      refine am_ldiv dX2_cold_229 h39 ?_
                      exact am_lret dX2_cold_230 rfl rfl
                  refine am_drop (ls' := [none, none, none, none, none, some (am_i a5), none, some (am_l x27.1), none, none, none, some (am_l x27.2), none, some (am_l x27.2), none, some (am_l x27.1), none, none, none]) (And.intro rfl (And.intro rfl (And.intro rfl (And.intro rfl (And.intro rfl trivial))))) ?_
                  refine am_loop (σ := (Int64 × Int64)) (ls' := fun s32 => [none, none, none, none, none, some (am_i a5), none, some (am_l x27.1), none, none, none, some (am_l x27.2), none, some (am_l s32.1), none, some (am_l s32.2), none, none, none]) (st' := fun _ => []) (M' := fun s32 => M1) (fun rec33 hr34 s32 => ?_) _ _
                  unfold fX2_cold_L187
                  refine am_lload dX2_cold_187 rfl ?_
                  refine am_lconst (v := 0) dX2_cold_189 rfl ?_
                  refine am_lcmp dX2_cold_190 ?_
                  refine am_if_eqB (tgt := 212) dX2_cold_191 rfl ?_ ?_
                  · exact am_dr (hx35 (s32.1, s32.2)) (And.intro rfl (And.intro rfl (And.intro rfl (And.intro rfl trivial))))
                  · refine am_lload dX2_cold_194 rfl ?_
                    refine am_lload dX2_cold_196 rfl ?_
                    refine am_grdB (fun h37 => ?_)
                    refine am_lrem dX2_cold_198 h37 ?_
                    refine am_lstore [none, none, none, none, none, some (am_i a5), none, some (am_l x27.1), none, none, none, some (am_l x27.2), none, some (am_l s32.1), none, some (am_l s32.2), none, some (am_l (jv_lrem s32.1 s32.2)), none] dX2_cold_199 rfl (Nat.le_of_ble_eq_true rfl) rfl ?_
                    refine am_lload dX2_cold_201 rfl ?_
                    refine am_lstore [none, none, none, none, none, some (am_i a5), none, some (am_l x27.1), none, none, none, some (am_l x27.2), none, some (am_l s32.2), none, some (am_l s32.2), none, some (am_l (jv_lrem s32.1 s32.2)), none] dX2_cold_203 rfl (Nat.le_of_ble_eq_true rfl) rfl ?_
                    refine am_lload dX2_cold_205 rfl ?_
                    refine am_lstore [none, none, none, none, none, some (am_i a5), none, some (am_l x27.1), none, none, none, some (am_l x27.2), none, some (am_l s32.2), none, some (am_l (jv_lrem s32.1 s32.2)), none, some (am_l (jv_lrem s32.1 s32.2)), none] dX2_cold_207 rfl (Nat.le_of_ble_eq_true rfl) rfl ?_
                    refine am_goto (tgt := 187) dX2_cold_209 rfl ?_
                    exact am_dr (hr34 (s32.2, (jv_lrem s32.1 s32.2))) (And.intro rfl (And.intro rfl (And.intro rfl (And.intro rfl (And.intro rfl trivial)))))
                refine am_if_neB (tgt := 179) dX2_cold_147 rfl ?_ ?_
                · refine am_lload dX2_cold_150 rfl ?_
                  refine am_iload dX2_cold_152 rfl ?_
                  refine am_as ?_
                  refine am_cSL lc_X2_180 (kX2_power G M1 v25 s6.1) rfl rfl rfl rfl rfl dX2_cold_154 (fun v29 => ?_)
                  refine am_lload dX2_cold_157 rfl ?_
                  refine am_lload dX2_cold_159 rfl ?_
                  refine am_lsub dX2_cold_161 ?_
                  refine am_iload dX2_cold_162 rfl ?_
                  refine am_as ?_
                  refine am_cSL lc_X2_180 (kX2_power G M1 (v25 - v26) s6.1) rfl rfl rfl rfl rfl dX2_cold_164 (fun v30 => ?_)
                  refine am_lsub dX2_cold_167 ?_
                  refine am_lstore [none, none, some (am_i a2), some (am_i a3), some (am_i a4), some (am_i a5), some (am_i s6.1), some (am_l v25), none, some (am_l v26), none, some (am_l (v29 - v30)), none, none, none, none, none, none, none] dX2_cold_168 rfl (Nat.le_of_ble_eq_true rfl) rfl ?_
                  refine am_lload dX2_cold_170 rfl ?_
                  refine am_iload dX2_cold_172 rfl ?_
                  refine am_as ?_
                  refine am_cSL lc_X2_180 (kX2_power G M1 v25 s6.1) rfl rfl rfl rfl rfl dX2_cold_174 (fun v31 => ?_)
                  refine am_lstore [none, none, some (am_i a2), some (am_i a3), some (am_i a4), some (am_i a5), some (am_i s6.1), some (am_l v31), none, some (am_l v26), none, some (am_l (v29 - v30)), none, none, none, none, none, none, none] dX2_cold_177 rfl (Nat.le_of_ble_eq_true rfl) rfl ?_
                  exact hm28 (v31, (v29 - v30))
                · exact hm28 (v25, (((s6.1).toInt64) * v26))
            refine am_loop (σ := (Int32 × Int32)) (ls' := fun s2 => [some (am_r 1 0), some (am_i a1), some (am_i a2), some (am_i a3), some (am_i a4), some (am_i a5), some (am_i s2.1), some (am_i s2.2), none, none, none, none, none, none, none, none, none, none, none]) (st' := fun _ => []) (M' := fun s2 => M1) (fun rec3 hr4 s2 => ?_) _ _
            unfold fX2_cold_L65
            refine am_iload dX2_cold_65 rfl ?_
            refine am_bipush dX2_cold_67 bp_8 ?_
            refine am_icmp_geB (tgt := 98) dX2_cold_69 rfl ?_ ?_
            · exact am_dr (hx5 (s2.1, s2.2)) (And.intro rfl (And.intro rfl (And.intro rfl (And.intro rfl (And.intro rfl trivial)))))
            · refine am_iload dX2_cold_72 rfl ?_
              refine am_aload_n dX2_cold_74 rfl rfl ?_
              refine am_iload dX2_cold_75 rfl ?_
              refine am_iload_n dX2_cold_77 rfl rfl ?_
              refine am_as ?_
              refine am_cVI (as' := [am_i s2.2, am_i a1]) lc_X2_92 rfl (kX2_sings G M1 s2.2 a1) rfl rfl rfl rfl rfl rfl dX2_cold_78 (fun v7 => ?_)
              refine am_as ?_
              refine am_join (β := Int32) 89 (fun x8 => [some (am_r 1 0), some (am_i a1), some (am_i a2), some (am_i a3), some (am_i a4), some (am_i a5), some (am_i s2.1), some (am_i s2.2), none, none, none, none, none, none, none, none, none, none, none]) (fun x8 => [am_i x8, am_i s2.1]) (fun x8 => M1) (fun x8 => ?_) (fun hm9 => ?_)
              · refine am_iadd dX2_cold_89 ?_
                refine am_istore [some (am_r 1 0), some (am_i a1), some (am_i a2), some (am_i a3), some (am_i a4), some (am_i a5), some (am_i (s2.1 + x8)), some (am_i s2.2), none, none, none, none, none, none, none, none, none, none, none] dX2_cold_90 rfl (Nat.le_of_ble_eq_true rfl) rfl ?_
                refine am_iinc [some (am_r 1 0), some (am_i a1), some (am_i a2), some (am_i a3), some (am_i a4), some (am_i a5), some (am_i (s2.1 + x8)), some (am_i (s2.2 + 1)), none, none, none, none, none, none, none, none, none, none, none] dX2_cold_92 rfl ic_1 rfl (Nat.le_of_ble_eq_true rfl) rfl ?_
                refine am_goto (tgt := 65) dX2_cold_95 rfl ?_
                exact hr4 ((s2.1 + x8), (s2.2 + 1))
              refine am_if_eqB (tgt := 88) dX2_cold_81 rfl ?_ ?_
              · refine am_iconst dX2_cold_88 ic_0 ?_
                exact hm9 (0 : Int32)
              · refine am_iconst dX2_cold_84 ic_1 ?_
                refine am_goto (tgt := 89) dX2_cold_85 rfl ?_
                exact hm9 (1 : Int32)
def fX2_year_L189 (s1 : (Int32 × Int32 × am_M)) (rec2 : (Int32 × Int32) → Option (Int32 × Int32)) (s3 : (Int32 × Int32)) : Option (Int32 × Int32) :=
(if (8 : Int32) ≤ s3.2 then
some (s3.1, s3.2)
 else
(Option.bind (if (fX2_has ((s1.2.2) 1 2 0) s3.2) = 0 then
some (0 : Int32)
 else
(Option.bind (am_rd ((s1.2.2) 1 1) 36 s3.2) fun v4 =>
(if v4 < 0 then
some (0 : Int32)
 else
some (1 : Int32)))) fun (x5 : Int32) =>
rec2 ((s3.1 + x5), (s3.2 + 1))))
def fX2_year_L43 (a2 : Int32) (rec1 : (Int32 × Int32 × am_M) → Option (Int32 × Int32 × am_M)) (s2 : (Int32 × Int32 × am_M)) : Option (Int32 × Int32 × am_M) :=
(if a2 ≤ s2.2.1 then
some (s2.1, s2.2.1, s2.2.2)
 else
(Option.bind (some (jv_rem (((75 : Int32) * s2.1) + (74 : Int32)) (65537 : Int32))) fun v3 =>
(Option.bind (if (3 : Int32) ≤ (jv_rem (v3 / (8 : Int32)) (8 : Int32)) then
(if (jv_rem (v3 / (8 : Int32)) (8 : Int32)) = (3 : Int32) then
(Option.bind (fX2_hush s2.2.2 (jv_rem v3 (8 : Int32))) fun r4 =>
some r4.2)
 else
(if (6 : Int32) ≤ (jv_rem (v3 / (8 : Int32)) (8 : Int32)) then
(if (jv_rem (v3 / (8 : Int32)) (8 : Int32)) = (6 : Int32) then
(Option.bind (am_rd ((s2.2.2) 1 1) 36 (34 : Int32)) fun v5 =>
(Option.bind (am_wr s2.2.2 1 1 36 (34 : Int32) (v5 ^^^ ((1 : Int32) <<< ((jv_rem (v3 / (64 : Int32)) (10 : Int32)) &&& 31)))) fun M6 =>
some M6))
 else
(Option.bind (fX2_beat s2.2.2) fun r7 =>
some r7.2))
 else
(Option.bind (fX2_go s2.2.2 (jv_rem v3 (8 : Int32)) (jv_rem (v3 / (64 : Int32)) (10 : Int32))) fun r8 =>
some r8.2)))
 else
(Option.bind (fX2_sing s2.2.2 (jv_rem v3 (8 : Int32)) (jv_rem (v3 / (64 : Int32)) (24 : Int32))) fun r9 =>
some r9.2)) fun (x10 : am_M) =>
rec1 (v3, (s2.2.1 + 1), x10))))
def fX2_year (M : am_M) (a1 : Int32) (a2 : Int32) (a3 : Int32) : Option (Int32 × am_M) :=
(if (fX2_in a1 (0 : Int32) (9999 : Int32)) = 0 then
some ((-2 : Int32), M)
 else
(if (fX2_in a2 (1 : Int32) (99 : Int32)) = 0 then
some ((-2 : Int32), M)
 else
(if (fX2_in a3 (0 : Int32) (2 : Int32)) = 0 then
some ((-2 : Int32), M)
 else
(Option.bind (fX2_asNow M) fun M1 =>
(Option.bind (am_it (fX2_year_L43 a2) am_fuel (a1, (0 : Int32), M1)) fun (s6 : (Int32 × Int32 × am_M)) =>
(Option.bind (am_it (fX2_year_L189 s6) am_fuel ((0 : Int32), (0 : Int32))) fun (s20 : (Int32 × Int32)) =>
(if a3 = 0 then
(Option.bind (fX2_coal ((s6.2.2) 1)) fun v24 =>
some (v24, s6.2.2))
 else
(if a3 = (1 : Int32) then
(Option.bind (fX2_lamps ((s6.2.2) 1)) fun v25 =>
(Option.bind (fX2_bits v25) fun v26 =>
some (v26, s6.2.2)))
 else
some (s20.1, s6.2.2)))))))))
set_option maxHeartbeats 4000000 in
theorem kX2_year (G : am_G) (M : am_M) (a1 : Int32) (a2 : Int32) (a3 : Int32) : am_C G 7 mX2_year [am_r 1 0, am_i a1, am_i a2, am_i a3] M (fun r => (some (am_i r.1), r.2)) (fX2_year M a1 a2 a3) := by
  refine am_met (nL := 9) (ls0 := [some (am_r 1 0), some (am_i a1), some (am_i a2), some (am_i a3), none, none, none, none, none]) (by decide) rfl (Nat.le_of_ble_eq_true rfl) (And.intro rfl (And.intro rfl (And.intro rfl (And.intro rfl trivial)))) ?_
  unfold fX2_year
  refine am_iload_n dX2_year_0 rfl rfl ?_
  refine am_iconst dX2_year_1 ic_0 ?_
  refine am_sipush dX2_year_2 sp_9999 ?_
  refine am_cST lc_X2_59 (kX2_in G M a1 (0 : Int32) (9999 : Int32)) rfl rfl rfl rfl rfl dX2_year_5 ?_
  refine am_if_eq (tgt := 30) dX2_year_8 rfl ?_ ?_
  · refine am_bipush dX2_year_30 bp_m2 ?_
    exact am_iret dX2_year_32 rfl rfl
  · refine am_iload_n dX2_year_11 rfl rfl ?_
    refine am_iconst dX2_year_12 ic_1 ?_
    refine am_bipush dX2_year_13 bp_99 ?_
    refine am_cST lc_X2_59 (kX2_in G M a2 (1 : Int32) (99 : Int32)) rfl rfl rfl rfl rfl dX2_year_15 ?_
    refine am_if_eq (tgt := 30) dX2_year_18 rfl ?_ ?_
    · refine am_bipush dX2_year_30 bp_m2 ?_
      exact am_iret dX2_year_32 rfl rfl
    · refine am_iload_n dX2_year_21 rfl rfl ?_
      refine am_iconst dX2_year_22 ic_0 ?_
      refine am_iconst dX2_year_23 ic_2 ?_
      refine am_cST lc_X2_59 (kX2_in G M a3 (0 : Int32) (2 : Int32)) rfl rfl rfl rfl rfl dX2_year_24 ?_
      refine am_if_ne (tgt := 33) dX2_year_27 rfl ?_ ?_
      · refine am_bipush dX2_year_30 bp_m2 ?_
        exact am_iret dX2_year_32 rfl rfl
      · refine am_aload_n dX2_year_33 rfl rfl ?_
        refine am_cVU (as' := []) lc_X2_110 rfl (kX2_asNow G M) rfl rfl rfl rfl rfl rfl dX2_year_34 (fun M1 => ?_)
        refine am_iload_n dX2_year_37 rfl rfl ?_
        refine am_istore [some (am_r 1 0), some (am_i a1), some (am_i a2), some (am_i a3), some (am_i a1), none, none, none, none] dX2_year_38 rfl (Nat.le_of_ble_eq_true rfl) rfl ?_
        refine am_iconst dX2_year_40 ic_0 ?_
        refine am_istore [some (am_r 1 0), some (am_i a1), some (am_i a2), some (am_i a3), some (am_i a1), some (am_i (0 : Int32)), none, none, none] dX2_year_41 rfl (Nat.le_of_ble_eq_true rfl) rfl ?_
        refine am_join (β := (Int32 × Int32 × am_M)) 183 (fun s6 => [some (am_r 1 0), none, none, some (am_i a3), none, none, none, none, none]) (fun _ => []) (fun s6 => s6.2.2) (fun s6 => ?_) (fun hx5 => ?_)
        · refine am_iconst dX2_year_183 ic_0 ?_
          refine am_istore [some (am_r 1 0), none, none, some (am_i a3), none, some (am_i (0 : Int32)), none, none, none] dX2_year_184 rfl (Nat.le_of_ble_eq_true rfl) rfl ?_
          refine am_iconst dX2_year_186 ic_0 ?_
          refine am_istore [some (am_r 1 0), none, none, some (am_i a3), none, some (am_i (0 : Int32)), some (am_i (0 : Int32)), none, none] dX2_year_187 rfl (Nat.le_of_ble_eq_true rfl) rfl ?_
          refine am_join (β := (Int32 × Int32)) 234 (fun s20 => [some (am_r 1 0), none, none, some (am_i a3), none, some (am_i s20.1), none, none, none]) (fun _ => []) (fun s20 => s6.2.2) (fun s20 => ?_) (fun hx19 => ?_)
          · refine am_iload_n dX2_year_234 rfl rfl ?_
            refine am_if_ne (tgt := 245) dX2_year_235 rfl ?_ ?_
            · refine am_aload_n dX2_year_238 rfl rfl ?_
              refine am_cVI (as' := []) lc_X2_141 rfl (kX2_coal G s6.2.2) rfl rfl rfl rfl rfl rfl dX2_year_239 (fun v24 => ?_)
              refine am_goto (tgt := 262) dX2_year_242 rfl ?_
              exact am_iret dX2_year_262 rfl rfl
            · refine am_iload_n dX2_year_245 rfl rfl ?_
              refine am_iconst dX2_year_246 ic_1 ?_
              refine am_icmp_ne (tgt := 260) dX2_year_247 rfl ?_ ?_
              · refine am_aload_n dX2_year_250 rfl rfl ?_
                refine am_cVI (as' := []) lc_X2_116 rfl (kX2_lamps G s6.2.2) rfl rfl rfl rfl rfl rfl dX2_year_251 (fun v25 => ?_)
                refine am_cSI lc_X2_75 (kX2_bits G s6.2.2 v25) rfl rfl rfl rfl rfl dX2_year_254 (fun v26 => ?_)
                refine am_goto (tgt := 262) dX2_year_257 rfl ?_
                exact am_iret dX2_year_262 rfl rfl
              · refine am_iload dX2_year_260 rfl ?_
                exact am_iret dX2_year_262 rfl rfl
          refine am_loop (σ := (Int32 × Int32)) (ls' := fun s16 => [some (am_r 1 0), none, none, some (am_i a3), none, some (am_i s16.1), some (am_i s16.2), none, none]) (st' := fun _ => []) (M' := fun s16 => s6.2.2) (fun rec17 hr18 s16 => ?_) _ _
          unfold fX2_year_L189
          refine am_iload dX2_year_189 rfl ?_
          refine am_bipush dX2_year_191 bp_8 ?_
          refine am_icmp_geB (tgt := 234) dX2_year_193 rfl ?_ ?_
          · exact am_dr (hx19 (s16.1, s16.2)) (And.intro rfl (And.intro rfl (And.intro rfl trivial)))
          · refine am_iload dX2_year_196 rfl ?_
            refine am_aload_n dX2_year_198 rfl rfl ?_
            refine am_get lf_X2_63 rfl rfl dX2_year_199 ?_
            refine am_iload dX2_year_202 rfl ?_
            refine am_cST lc_X2_67 (kX2_has G s6.2.2 ((s6.2.2) 1 2 0) s16.2) rfl rfl rfl rfl rfl dX2_year_204 ?_
            refine am_as ?_
            refine am_join (β := Int32) 225 (fun x21 => [some (am_r 1 0), none, none, some (am_i a3), none, some (am_i s16.1), some (am_i s16.2), none, none]) (fun x21 => [am_i x21, am_i s16.1]) (fun x21 => s6.2.2) (fun x21 => ?_) (fun hm22 => ?_)
            · refine am_iadd dX2_year_225 ?_
              refine am_istore [some (am_r 1 0), none, none, some (am_i a3), none, some (am_i (s16.1 + x21)), some (am_i s16.2), none, none] dX2_year_226 rfl (Nat.le_of_ble_eq_true rfl) rfl ?_
              refine am_iinc [some (am_r 1 0), none, none, some (am_i a3), none, some (am_i (s16.1 + x21)), some (am_i (s16.2 + 1)), none, none] dX2_year_228 rfl ic_1 rfl (Nat.le_of_ble_eq_true rfl) rfl ?_
              refine am_goto (tgt := 189) dX2_year_231 rfl ?_
              exact hr18 ((s16.1 + x21), (s16.2 + 1))
            refine am_if_eqB (tgt := 224) dX2_year_207 rfl ?_ ?_
            · refine am_iconst dX2_year_224 ic_0 ?_
              exact hm22 (0 : Int32)
            · refine am_aload_n dX2_year_210 rfl rfl ?_
              refine am_getA lf_X2_13 rfl rfl dX2_year_211 ?_
              refine am_iload dX2_year_214 rfl ?_
              refine am_as ?_
              refine am_iald (β := Unit) rfl dX2_year_216 (fun v23 => ?_)
              refine am_if_ltB (tgt := 224) dX2_year_217 rfl ?_ ?_
              · refine am_iconst dX2_year_224 ic_0 ?_
                exact hm22 (0 : Int32)
              · refine am_iconst dX2_year_220 ic_1 ?_
                refine am_goto (tgt := 225) dX2_year_221 rfl ?_
                exact hm22 (1 : Int32)
        refine am_drop (ls' := [some (am_r 1 0), none, some (am_i a2), some (am_i a3), some (am_i a1), some (am_i (0 : Int32)), none, none, none]) (And.intro rfl (And.intro rfl (And.intro rfl (And.intro rfl (And.intro rfl trivial))))) ?_
        refine am_loop (σ := (Int32 × Int32 × am_M)) (ls' := fun s2 => [some (am_r 1 0), none, some (am_i a2), some (am_i a3), some (am_i s2.1), some (am_i s2.2.1), none, none, none]) (st' := fun _ => []) (M' := fun s2 => s2.2.2) (fun rec3 hr4 s2 => ?_) _ _
        unfold fX2_year_L43
        refine am_iload dX2_year_43 rfl ?_
        refine am_iload_n dX2_year_45 rfl rfl ?_
        refine am_icmp_geB (tgt := 183) dX2_year_46 rfl ?_ ?_
        · exact am_dr (hx5 (s2.1, s2.2.1, s2.2.2)) (And.intro rfl (And.intro rfl trivial))
        · refine am_bipush dX2_year_49 bp_75 ?_
          refine am_iload dX2_year_51 rfl ?_
          refine am_imul dX2_year_53 ?_
          refine am_bipush dX2_year_54 bp_74 ?_
          refine am_iadd dX2_year_56 ?_
          refine am_ldc dX2_year_57 q861 ?_
          refine am_irem dX2_year_59 (by decide) ?_
          refine am_as ?_
          refine am_name (fun v7 => ?_)
          refine am_istore [some (am_r 1 0), none, some (am_i a2), some (am_i a3), some (am_i v7), some (am_i s2.2.1), none, none, none] dX2_year_60 rfl (Nat.le_of_ble_eq_true rfl) rfl ?_
          refine am_iload dX2_year_62 rfl ?_
          refine am_bipush dX2_year_64 bp_8 ?_
          refine am_irem dX2_year_66 (by decide) ?_
          refine am_istore [some (am_r 1 0), none, some (am_i a2), some (am_i a3), some (am_i v7), some (am_i s2.2.1), some (am_i (jv_rem v7 (8 : Int32))), none, none] dX2_year_67 rfl (Nat.le_of_ble_eq_true rfl) rfl ?_
          refine am_iload dX2_year_69 rfl ?_
          refine am_bipush dX2_year_71 bp_8 ?_
          refine am_idiv dX2_year_73 (by decide) ?_
          refine am_bipush dX2_year_74 bp_8 ?_
          refine am_irem dX2_year_76 (by decide) ?_
          refine am_istore [some (am_r 1 0), none, some (am_i a2), some (am_i a3), some (am_i v7), some (am_i s2.2.1), some (am_i (jv_rem v7 (8 : Int32))), some (am_i (jv_rem (v7 / (8 : Int32)) (8 : Int32))), none] dX2_year_77 rfl (Nat.le_of_ble_eq_true rfl) rfl ?_
          refine am_iload dX2_year_79 rfl ?_
          refine am_bipush dX2_year_81 bp_64 ?_
          refine am_idiv dX2_year_83 (by decide) ?_
          refine am_istore [some (am_r 1 0), none, some (am_i a2), some (am_i a3), some (am_i v7), some (am_i s2.2.1), some (am_i (jv_rem v7 (8 : Int32))), some (am_i (jv_rem (v7 / (8 : Int32)) (8 : Int32))), some (am_i (v7 / (64 : Int32)))] dX2_year_84 rfl (Nat.le_of_ble_eq_true rfl) rfl ?_
          refine am_iload dX2_year_86 rfl ?_
          refine am_iconst dX2_year_88 ic_3 ?_
          refine am_as ?_
          refine am_join (β := am_M) 177 (fun x8 => [some (am_r 1 0), none, some (am_i a2), some (am_i a3), some (am_i v7), some (am_i s2.2.1), some (am_i (jv_rem v7 (8 : Int32))), some (am_i (jv_rem (v7 / (8 : Int32)) (8 : Int32))), some (am_i (v7 / (64 : Int32)))]) (fun x8 => []) (fun x8 => x8) (fun x8 => ?_) (fun hm9 => ?_)
          · refine am_iinc [some (am_r 1 0), none, some (am_i a2), some (am_i a3), some (am_i v7), some (am_i (s2.2.1 + 1)), some (am_i (jv_rem v7 (8 : Int32))), some (am_i (jv_rem (v7 / (8 : Int32)) (8 : Int32))), some (am_i (v7 / (64 : Int32)))] dX2_year_177 rfl ic_1 rfl (Nat.le_of_ble_eq_true rfl) rfl ?_
            refine am_goto (tgt := 43) dX2_year_180 rfl ?_
            exact am_dr (hr4 (v7, (s2.2.1 + 1), x8)) (And.intro rfl (And.intro rfl (And.intro rfl (And.intro rfl (And.intro rfl trivial)))))
          refine am_icmp_geB (tgt := 107) dX2_year_89 rfl ?_ ?_
          · refine am_iload dX2_year_107 rfl ?_
            refine am_iconst dX2_year_109 ic_3 ?_
            refine am_icmp_neB (tgt := 123) dX2_year_110 rfl ?_ ?_
            · refine am_aload_n dX2_year_113 rfl rfl ?_
              refine am_iload dX2_year_114 rfl ?_
              refine am_as ?_
              refine am_cVX (as' := [am_i (jv_rem v7 (8 : Int32))]) lc_X2_125 rfl (kX2_hush G s2.2.2 (jv_rem v7 (8 : Int32))) rfl rfl rfl rfl rfl rfl dX2_year_116 (fun r10 => ?_)
              refine am_pop dX2_year_119 rfl ?_
              refine am_goto (tgt := 177) dX2_year_120 rfl ?_
              exact hm9 r10.2
            · refine am_iload dX2_year_123 rfl ?_
              refine am_bipush dX2_year_125 bp_6 ?_
              refine am_icmp_geB (tgt := 145) dX2_year_127 rfl ?_ ?_
              · refine am_iload dX2_year_145 rfl ?_
                refine am_bipush dX2_year_147 bp_6 ?_
                refine am_icmp_neB (tgt := 172) dX2_year_149 rfl ?_ ?_
                · refine am_aload_n dX2_year_152 rfl rfl ?_
                  refine am_getA lf_X2_13 rfl rfl dX2_year_153 ?_
                  refine am_bipush dX2_year_156 bp_34 ?_
                  refine am_dup2 dX2_year_158 rfl rfl ?_
                  refine am_as ?_
                  refine am_iald (β := Unit) rfl dX2_year_159 (fun v11 => ?_)
                  refine am_iconst dX2_year_160 ic_1 ?_
                  refine am_iload dX2_year_161 rfl ?_
                  refine am_bipush dX2_year_163 bp_10 ?_
                  refine am_irem dX2_year_165 (by decide) ?_
                  refine am_ishl dX2_year_166 ?_
                  refine am_ixor dX2_year_167 ?_
                  refine am_as ?_
                  refine am_iast rfl dX2_year_168 (fun M12 => ?_)
                  refine am_goto (tgt := 177) dX2_year_169 rfl ?_
                  exact hm9 M12
                · refine am_aload_n dX2_year_172 rfl rfl ?_
                  refine am_as ?_
                  refine am_cVX (as' := []) lc_X2_122 rfl (kX2_beat G s2.2.2) rfl rfl rfl rfl rfl rfl dX2_year_173 (fun r13 => ?_)
                  refine am_pop dX2_year_176 rfl ?_
                  exact hm9 r13.2
              · refine am_aload_n dX2_year_130 rfl rfl ?_
                refine am_iload dX2_year_131 rfl ?_
                refine am_iload dX2_year_133 rfl ?_
                refine am_bipush dX2_year_135 bp_10 ?_
                refine am_irem dX2_year_137 (by decide) ?_
                refine am_as ?_
                refine am_cVX (as' := [am_i (jv_rem v7 (8 : Int32)), am_i (jv_rem (v7 / (64 : Int32)) (10 : Int32))]) lc_X2_128 rfl (kX2_go G s2.2.2 (jv_rem v7 (8 : Int32)) (jv_rem (v7 / (64 : Int32)) (10 : Int32))) rfl rfl rfl rfl rfl rfl dX2_year_138 (fun r14 => ?_)
                refine am_pop dX2_year_141 rfl ?_
                refine am_goto (tgt := 177) dX2_year_142 rfl ?_
                exact hm9 r14.2
          · refine am_aload_n dX2_year_92 rfl rfl ?_
            refine am_iload dX2_year_93 rfl ?_
            refine am_iload dX2_year_95 rfl ?_
            refine am_bipush dX2_year_97 bp_24 ?_
            refine am_irem dX2_year_99 (by decide) ?_
            refine am_as ?_
            refine am_cVX (as' := [am_i (jv_rem v7 (8 : Int32)), am_i (jv_rem (v7 / (64 : Int32)) (24 : Int32))]) lc_X2_132 rfl (kX2_sing G s2.2.2 (jv_rem v7 (8 : Int32)) (jv_rem (v7 / (64 : Int32)) (24 : Int32))) rfl rfl rfl rfl rfl rfl dX2_year_100 (fun r15 => ?_)
            refine am_pop dX2_year_103 rfl ?_
            refine am_goto (tgt := 177) dX2_year_104 rfl ?_
            exact hm9 r15.2
