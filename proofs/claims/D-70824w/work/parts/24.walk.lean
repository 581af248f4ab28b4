/-! walks, printed by gen/decomp.py -/
set_option maxRecDepth 100000
def fX0_restore (L : Nat → Bool) (M : am_M) (a1 : Int32) : Option (Int32 × am_M) :=
(if (fX0_isEnd a1) = 0 then
some ((-2 : Int32), M)
 else
(if a1 < 0 ∨ 2 ≤ a1.toNatClampNeg then none else if L (a1.toNatClampNeg + 4) = true then
(if a1 < 0 ∨ 2 ≤ a1.toNatClampNeg then none else if L (a1.toNatClampNeg + 4) = true then
(Option.bind (fX1_take M 0 (a1.toNatClampNeg + 2)) fun M1 =>
some ((1 : Int32), M1))
 else
none)
 else
some ((-3 : Int32), M)))
set_option maxHeartbeats 4000000 in
theorem kX0_restore (G : am_G) (M : am_M) (a1 : Int32) : am_C G 3 mX0_restore [am_r 0 0, am_i a1] M (fun r => (some (am_i r.1), r.2)) (fX0_restore G.2.2.2.1 M a1) := by
  refine am_met (nL := 2) (ls0 := [some (am_r 0 0), some (am_i a1)]) (by decide) rfl (Nat.le_of_ble_eq_true rfl) (And.intro rfl (And.intro rfl trivial)) ?_
  unfold fX0_restore
  refine am_iload_n dX0_restore_0 rfl rfl ?_
  refine am_cST lc_X0_197 (kX0_isEnd G M a1) rfl rfl rfl rfl rfl dX0_restore_1 ?_
  refine am_if_ne (tgt := 10) dX0_restore_4 rfl ?_ ?_
  · refine am_bipush dX0_restore_7 bp_m2 ?_
    exact am_iret dX0_restore_9 rfl rfl
  · refine am_aload_n dX0_restore_10 rfl rfl ?_
    refine am_getA lf_X0_45 rfl rfl dX0_restore_11 ?_
    refine am_iload_n dX0_restore_14 rfl rfl ?_
    refine am_aald dX0_restore_15 ?_ ?_
    · refine am_ifnonnull (tgt := 22) dX0_restore_16 rfl ?_
      refine am_aload_n dX0_restore_22 rfl rfl ?_
      refine am_getO (o2 := 2) lf_X0_38 rfl (by decide) dX0_restore_23 ?_
      refine am_aload_n dX0_restore_26 rfl rfl ?_
      refine am_getA lf_X0_45 rfl rfl dX0_restore_27 ?_
      refine am_iload_n dX0_restore_30 rfl rfl ?_
      refine am_aald dX0_restore_31 ?_ ?_
      · refine am_cVU (as' := [am_r (a1.toNatClampNeg + 4) 0]) lc_X0_163 rfl (kX1_take G M 0 (a1.toNatClampNeg + 2)) rfl rfl rfl rfl rfl rfl dX0_restore_32 (fun M1 => ?_)
        refine am_iconst dX0_restore_35 ic_1 ?_
        exact am_iret dX0_restore_36 rfl rfl
      · exact am_none
    · refine am_ifnonnullN dX0_restore_16 ?_
      refine am_bipush dX0_restore_19 bp_m3 ?_
      exact am_iret dX0_restore_21 rfl rfl
def fX0_toldOfGallery (M : am_M) (a1 : Int32) (a2 : Int32) : Option Int32 :=
(if a2 = 0 then
(Option.bind (am_rd (M 2 1) 10 a1) fun v1 =>
some v1)
 else
(if a2 = (1 : Int32) then
(Option.bind (am_rd (M 2 2) 10 a1) fun v2 =>
some v2)
 else
(if a2 = (2 : Int32) then
(Option.bind (am_rd (M 2 0) 10 a1) fun v3 =>
some v3)
 else
some (-2 : Int32))))
set_option maxHeartbeats 4000000 in
theorem kX0_toldOfGallery (G : am_G) (M : am_M) (a1 : Int32) (a2 : Int32) : am_C G 1 mX0_toldOfGallery [am_r 0 0, am_i a1, am_i a2] M (fun r => (some (am_i r), M)) (fX0_toldOfGallery M a1 a2) := by
  refine am_met (nL := 3) (ls0 := [some (am_r 0 0), some (am_i a1), some (am_i a2)]) (by decide) rfl (Nat.le_of_ble_eq_true rfl) (And.intro rfl (And.intro rfl (And.intro rfl trivial))) ?_
  unfold fX0_toldOfGallery
  refine am_iload_n dX0_toldOfGallery_0 rfl rfl ?_
  refine am_if_ne (tgt := 16) dX0_toldOfGallery_1 rfl ?_ ?_
  · refine am_aload_n dX0_toldOfGallery_4 rfl rfl ?_
    refine am_getO (o2 := 2) lf_X0_38 rfl (by decide) dX0_toldOfGallery_5 ?_
    refine am_getA lf_X0_100 rfl rfl dX0_toldOfGallery_8 ?_
    refine am_iload_n dX0_toldOfGallery_11 rfl rfl ?_
    refine am_iald (β := Unit) rfl dX0_toldOfGallery_12 (fun v1 => ?_)
    refine am_goto (tgt := 52) dX0_toldOfGallery_13 rfl ?_
    exact am_iret dX0_toldOfGallery_52 rfl rfl
  · refine am_iload_n dX0_toldOfGallery_16 rfl rfl ?_
    refine am_iconst dX0_toldOfGallery_17 ic_1 ?_
    refine am_icmp_ne (tgt := 33) dX0_toldOfGallery_18 rfl ?_ ?_
    · refine am_aload_n dX0_toldOfGallery_21 rfl rfl ?_
      refine am_getO (o2 := 2) lf_X0_38 rfl (by decide) dX0_toldOfGallery_22 ?_
      refine am_getA lf_X0_209 rfl rfl dX0_toldOfGallery_25 ?_
      refine am_iload_n dX0_toldOfGallery_28 rfl rfl ?_
      refine am_iald (β := Unit) rfl dX0_toldOfGallery_29 (fun v2 => ?_)
      refine am_goto (tgt := 52) dX0_toldOfGallery_30 rfl ?_
      exact am_iret dX0_toldOfGallery_52 rfl rfl
    · refine am_iload_n dX0_toldOfGallery_33 rfl rfl ?_
      refine am_iconst dX0_toldOfGallery_34 ic_2 ?_
      refine am_icmp_ne (tgt := 50) dX0_toldOfGallery_35 rfl ?_ ?_
      · refine am_aload_n dX0_toldOfGallery_38 rfl rfl ?_
        refine am_getO (o2 := 2) lf_X0_38 rfl (by decide) dX0_toldOfGallery_39 ?_
        refine am_getA lf_X0_88 rfl rfl dX0_toldOfGallery_42 ?_
        refine am_iload_n dX0_toldOfGallery_45 rfl rfl ?_
        refine am_iald (β := Unit) rfl dX0_toldOfGallery_46 (fun v3 => ?_)
        refine am_goto (tgt := 52) dX0_toldOfGallery_47 rfl ?_
        exact am_iret dX0_toldOfGallery_52 rfl rfl
      · refine am_bipush dX0_toldOfGallery_50 bp_m2 ?_
        exact am_iret dX0_toldOfGallery_52 rfl rfl
def fX0_toldOfVoice (M : am_M) (a1 : Int32) (a2 : Int32) : Option Int32 :=
(if (fX0_isHere M a1) = 0 then
some (-2 : Int32)
 else
(if a2 = 0 then
(Option.bind (am_rd (M 2 6) 8 a1) fun v2 =>
some v2)
 else
(if a2 = 1 then
(Option.bind (am_rd (M 2 7) 8 a1) fun v4 =>
some v4)
 else
(if a2 = 2 then
(Option.bind (am_rd (M 2 9) 8 a1) fun v6 =>
some v6)
 else
(if a2 = 3 then
(Option.bind (am_rd (M 2 8) 8 a1) fun v8 =>
some v8)
 else
(if a2 = 4 then
(Option.bind (am_rd (M 2 10) 8 a1) fun v10 =>
some v10)
 else
(if a2 = 5 then
(Option.bind (am_rd (M 2 11) 8 a1) fun v12 =>
some v12)
 else
some (-2 : Int32))))))))
set_option maxHeartbeats 4000000 in
theorem kX0_toldOfVoice (G : am_G) (M : am_M) (a1 : Int32) (a2 : Int32) : am_C G 4 mX0_toldOfVoice [am_r 0 0, am_i a1, am_i a2] M (fun r => (some (am_i r), M)) (fX0_toldOfVoice M a1 a2) := by
  refine am_met (nL := 3) (ls0 := [some (am_r 0 0), some (am_i a1), some (am_i a2)]) (by decide) rfl (Nat.le_of_ble_eq_true rfl) (And.intro rfl (And.intro rfl (And.intro rfl trivial))) ?_
  unfold fX0_toldOfVoice
  refine am_aload_n dX0_toldOfVoice_0 rfl rfl ?_
  refine am_iload_n dX0_toldOfVoice_1 rfl rfl ?_
  refine am_cVT (as' := [am_i a1]) lc_X0_133 rfl (kX0_isHere G M a1) rfl rfl rfl rfl rfl rfl dX0_toldOfVoice_2 ?_
  refine am_if_ne (tgt := 11) dX0_toldOfVoice_5 rfl ?_ ?_
  · refine am_bipush dX0_toldOfVoice_8 bp_m2 ?_
    exact am_iret dX0_toldOfVoice_10 rfl rfl
  · refine am_iload_n dX0_toldOfVoice_11 rfl rfl ?_
    refine am_ite (fun h1 => ?_) (fun h1 => ?_)
    · refine am_swI (tgt := 52) 0 h1 dX0_toldOfVoice_12 (by decide) (by decide) rfl rfl ?_
      refine am_aload_n dX0_toldOfVoice_52 rfl rfl ?_
      refine am_getO (o2 := 2) lf_X0_38 rfl (by decide) dX0_toldOfVoice_53 ?_
      refine am_getA lf_X0_115 rfl rfl dX0_toldOfVoice_56 ?_
      refine am_iload_n dX0_toldOfVoice_59 rfl rfl ?_
      refine am_iald (β := Unit) rfl dX0_toldOfVoice_60 (fun v2 => ?_)
      exact am_iret dX0_toldOfVoice_61 rfl rfl
    refine am_ite (fun h3 => ?_) (fun h3 => ?_)
    · refine am_swI (tgt := 62) 1 h3 dX0_toldOfVoice_12 (by decide) (by decide) rfl rfl ?_
      refine am_aload_n dX0_toldOfVoice_62 rfl rfl ?_
      refine am_getO (o2 := 2) lf_X0_38 rfl (by decide) dX0_toldOfVoice_63 ?_
      refine am_getA lf_X0_118 rfl rfl dX0_toldOfVoice_66 ?_
      refine am_iload_n dX0_toldOfVoice_69 rfl rfl ?_
      refine am_iald (β := Unit) rfl dX0_toldOfVoice_70 (fun v4 => ?_)
      exact am_iret dX0_toldOfVoice_71 rfl rfl
    refine am_ite (fun h5 => ?_) (fun h5 => ?_)
    · refine am_swI (tgt := 72) 2 h5 dX0_toldOfVoice_12 (by decide) (by decide) rfl rfl ?_
      refine am_aload_n dX0_toldOfVoice_72 rfl rfl ?_
      refine am_getO (o2 := 2) lf_X0_38 rfl (by decide) dX0_toldOfVoice_73 ?_
      refine am_getA lf_X0_124 rfl rfl dX0_toldOfVoice_76 ?_
      refine am_iload_n dX0_toldOfVoice_79 rfl rfl ?_
      refine am_iald (β := Unit) rfl dX0_toldOfVoice_80 (fun v6 => ?_)
      exact am_iret dX0_toldOfVoice_81 rfl rfl
    refine am_ite (fun h7 => ?_) (fun h7 => ?_)
    · refine am_swI (tgt := 82) 3 h7 dX0_toldOfVoice_12 (by decide) (by decide) rfl rfl ?_
      refine am_aload_n dX0_toldOfVoice_82 rfl rfl ?_
      refine am_getO (o2 := 2) lf_X0_38 rfl (by decide) dX0_toldOfVoice_83 ?_
      refine am_getA lf_X0_121 rfl rfl dX0_toldOfVoice_86 ?_
      refine am_iload_n dX0_toldOfVoice_89 rfl rfl ?_
      refine am_iald (β := Unit) rfl dX0_toldOfVoice_90 (fun v8 => ?_)
      exact am_iret dX0_toldOfVoice_91 rfl rfl
    refine am_ite (fun h9 => ?_) (fun h9 => ?_)
    · refine am_swI (tgt := 92) 4 h9 dX0_toldOfVoice_12 (by decide) (by decide) rfl rfl ?_
      refine am_aload_n dX0_toldOfVoice_92 rfl rfl ?_
      refine am_getO (o2 := 2) lf_X0_38 rfl (by decide) dX0_toldOfVoice_93 ?_
      refine am_getA lf_X0_127 rfl rfl dX0_toldOfVoice_96 ?_
      refine am_iload_n dX0_toldOfVoice_99 rfl rfl ?_
      refine am_iald (β := Unit) rfl dX0_toldOfVoice_100 (fun v10 => ?_)
      exact am_iret dX0_toldOfVoice_101 rfl rfl
    refine am_ite (fun h11 => ?_) (fun h11 => ?_)
    · refine am_swI (tgt := 102) 5 h11 dX0_toldOfVoice_12 (by decide) (by decide) rfl rfl ?_
      refine am_aload_n dX0_toldOfVoice_102 rfl rfl ?_
      refine am_getO (o2 := 2) lf_X0_38 rfl (by decide) dX0_toldOfVoice_103 ?_
      refine am_getA lf_X0_130 rfl rfl dX0_toldOfVoice_106 ?_
      refine am_iload_n dX0_toldOfVoice_109 rfl rfl ?_
      refine am_iald (β := Unit) rfl dX0_toldOfVoice_110 (fun v12 => ?_)
      exact am_iret dX0_toldOfVoice_111 rfl rfl
    refine am_swO (tgt := 112) dX0_toldOfVoice_12 (by have h1 := lv_neT (a := 0) h1 (by decide); have h3 := lv_neT (a := 1) h3 (by decide); have h5 := lv_neT (a := 2) h5 (by decide); have h7 := lv_neT (a := 3) h7 (by decide); have h9 := lv_neT (a := 4) h9 (by decide); have h11 := lv_neT (a := 5) h11 (by decide); omega) rfl ?_
    refine am_bipush dX0_toldOfVoice_112 bp_m2 ?_
    exact am_iret dX0_toldOfVoice_114 rfl rfl
def fX0_toldOfAll (M : am_M) (a1 : Int32) : Option Int32 :=
(if a1 = 0 then
some (M 0 4 0)
 else
(if a1 = 1 then
some (M 2 5 0)
 else
(if a1 = 2 then
(Option.bind (fX1_lamps (M 2)) fun v4 =>
some v4)
 else
(if a1 = 3 then
some (M 2 12 0)
 else
(if a1 = 4 then
some (M 2 4 0)
 else
(if a1 = 5 then
some (M 2 3 0)
 else
(if a1 = 6 then
some (M 2 15 0)
 else
some (-2 : Int32))))))))
set_option maxHeartbeats 4000000 in
theorem kX0_toldOfAll (G : am_G) (M : am_M) (a1 : Int32) : am_C G 8 mX0_toldOfAll [am_r 0 0, am_i a1] M (fun r => (some (am_i r), M)) (fX0_toldOfAll M a1) := by
  refine am_met (nL := 2) (ls0 := [some (am_r 0 0), some (am_i a1)]) (by decide) rfl (Nat.le_of_ble_eq_true rfl) (And.intro rfl (And.intro rfl trivial)) ?_
  unfold fX0_toldOfAll
  refine am_iload_n dX0_toldOfAll_0 rfl rfl ?_
  refine am_ite (fun h1 => ?_) (fun h1 => ?_)
  · refine am_swI (tgt := 44) 0 h1 dX0_toldOfAll_1 (by decide) (by decide) rfl rfl ?_
    refine am_aload_n dX0_toldOfAll_44 rfl rfl ?_
    refine am_get lf_X0_140 rfl rfl dX0_toldOfAll_45 ?_
    exact am_iret dX0_toldOfAll_48 rfl rfl
  refine am_ite (fun h2 => ?_) (fun h2 => ?_)
  · refine am_swI (tgt := 49) 1 h2 dX0_toldOfAll_1 (by decide) (by decide) rfl rfl ?_
    refine am_aload_n dX0_toldOfAll_49 rfl rfl ?_
    refine am_getO (o2 := 2) lf_X0_38 rfl (by decide) dX0_toldOfAll_50 ?_
    refine am_get lf_X0_112 rfl rfl dX0_toldOfAll_53 ?_
    exact am_iret dX0_toldOfAll_56 rfl rfl
  refine am_ite (fun h3 => ?_) (fun h3 => ?_)
  · refine am_swI (tgt := 57) 2 h3 dX0_toldOfAll_1 (by decide) (by decide) rfl rfl ?_
    refine am_aload_n dX0_toldOfAll_57 rfl rfl ?_
    refine am_getO (o2 := 2) lf_X0_38 rfl (by decide) dX0_toldOfAll_58 ?_
    refine am_cVI (as' := []) lc_X0_180 rfl (kX1_lamps G M 0) rfl rfl rfl rfl rfl rfl dX0_toldOfAll_61 (fun v4 => ?_)
    exact am_iret dX0_toldOfAll_64 rfl rfl
  refine am_ite (fun h5 => ?_) (fun h5 => ?_)
  · refine am_swI (tgt := 65) 3 h5 dX0_toldOfAll_1 (by decide) (by decide) rfl rfl ?_
    refine am_aload_n dX0_toldOfAll_65 rfl rfl ?_
    refine am_getO (o2 := 2) lf_X0_38 rfl (by decide) dX0_toldOfAll_66 ?_
    refine am_get lf_X0_212 rfl rfl dX0_toldOfAll_69 ?_
    exact am_iret dX0_toldOfAll_72 rfl rfl
  refine am_ite (fun h6 => ?_) (fun h6 => ?_)
  · refine am_swI (tgt := 73) 4 h6 dX0_toldOfAll_1 (by decide) (by decide) rfl rfl ?_
    refine am_aload_n dX0_toldOfAll_73 rfl rfl ?_
    refine am_getO (o2 := 2) lf_X0_38 rfl (by decide) dX0_toldOfAll_74 ?_
    refine am_get lf_X0_225 rfl rfl dX0_toldOfAll_77 ?_
    exact am_iret dX0_toldOfAll_80 rfl rfl
  refine am_ite (fun h7 => ?_) (fun h7 => ?_)
  · refine am_swI (tgt := 81) 5 h7 dX0_toldOfAll_1 (by decide) (by decide) rfl rfl ?_
    refine am_aload_n dX0_toldOfAll_81 rfl rfl ?_
    refine am_getO (o2 := 2) lf_X0_38 rfl (by decide) dX0_toldOfAll_82 ?_
    refine am_get lf_X0_103 rfl rfl dX0_toldOfAll_85 ?_
    exact am_iret dX0_toldOfAll_88 rfl rfl
  refine am_ite (fun h8 => ?_) (fun h8 => ?_)
  · refine am_swI (tgt := 89) 6 h8 dX0_toldOfAll_1 (by decide) (by decide) rfl rfl ?_
    refine am_aload_n dX0_toldOfAll_89 rfl rfl ?_
    refine am_getO (o2 := 2) lf_X0_38 rfl (by decide) dX0_toldOfAll_90 ?_
    refine am_get lf_X0_277 rfl rfl dX0_toldOfAll_93 ?_
    exact am_iret dX0_toldOfAll_96 rfl rfl
  refine am_swO (tgt := 97) dX0_toldOfAll_1 (by have h1 := lv_neT (a := 0) h1 (by decide); have h2 := lv_neT (a := 1) h2 (by decide); have h3 := lv_neT (a := 2) h3 (by decide); have h5 := lv_neT (a := 3) h5 (by decide); have h6 := lv_neT (a := 4) h6 (by decide); have h7 := lv_neT (a := 5) h7 (by decide); have h8 := lv_neT (a := 6) h8 (by decide); omega) rfl ?_
  refine am_bipush dX0_toldOfAll_97 bp_m2 ?_
  exact am_iret dX0_toldOfAll_99 rfl rfl
def fX0_told (M : am_M) (a1 : Int32) : Option Int32 :=
(if (fX0_isIn ((a1).toInt64) (100 : Int64) (199 : Int64)) = 0 then
(if (fX0_isIn ((a1).toInt64) (10 : Int64) (89 : Int64)) = 0 then
(Option.bind (fX0_toldOfAll M a1) fun v1 =>
some v1)
 else
(Option.bind (fX0_toldOfVoice M ((a1 / (10 : Int32)) - (1 : Int32)) (jv_rem a1 (10 : Int32))) fun v2 =>
some v2))
 else
(Option.bind (fX0_toldOfGallery M ((a1 - (100 : Int32)) / (10 : Int32)) (jv_rem a1 (10 : Int32))) fun v3 =>
some v3))
set_option maxHeartbeats 4000000 in
theorem kX0_told (G : am_G) (M : am_M) (a1 : Int32) : am_C G 9 mX0_told [am_r 0 0, am_i a1] M (fun r => (some (am_i r), M)) (fX0_told M a1) := by
  refine am_met (nL := 2) (ls0 := [some (am_r 0 0), some (am_i a1)]) (by decide) rfl (Nat.le_of_ble_eq_true rfl) (And.intro rfl (And.intro rfl trivial)) ?_
  unfold fX0_told
  refine am_iload_n dX0_told_0 rfl rfl ?_
  refine am_i2l dX0_told_1 ?_
  refine am_ldc2 dX0_told_2 q552 ?_
  refine am_ldc2 dX0_told_5 q553 ?_
  refine am_cST lc_X0_3 (kX0_isIn G M ((a1).toInt64) (100 : Int64) (199 : Int64)) rfl rfl rfl rfl rfl dX0_told_8 ?_
  refine am_if_eq (tgt := 30) dX0_told_11 rfl ?_ ?_
  · refine am_iload_n dX0_told_30 rfl rfl ?_
    refine am_i2l dX0_told_31 ?_
    refine am_ldc2 dX0_told_32 q516 ?_
    refine am_ldc2 dX0_told_35 q558 ?_
    refine am_cST lc_X0_3 (kX0_isIn G M ((a1).toInt64) (10 : Int64) (89 : Int64)) rfl rfl rfl rfl rfl dX0_told_38 ?_
    refine am_if_eq (tgt := 61) dX0_told_41 rfl ?_ ?_
    · refine am_aload_n dX0_told_61 rfl rfl ?_
      refine am_iload_n dX0_told_62 rfl rfl ?_
      refine am_cVI (as' := [am_i a1]) lc_X0_340 rfl (kX0_toldOfAll G M a1) rfl rfl rfl rfl rfl rfl dX0_told_63 (fun v1 => ?_)
      exact am_iret dX0_told_66 rfl rfl
    · refine am_aload_n dX0_told_44 rfl rfl ?_
      refine am_iload_n dX0_told_45 rfl rfl ?_
      refine am_bipush dX0_told_46 bp_10 ?_
      refine am_idiv dX0_told_48 (by decide) ?_
      refine am_iconst dX0_told_49 ic_1 ?_
      refine am_isub dX0_told_50 ?_
      refine am_iload_n dX0_told_51 rfl rfl ?_
      refine am_bipush dX0_told_52 bp_10 ?_
      refine am_irem dX0_told_54 (by decide) ?_
      refine am_cVI (as' := [am_i ((a1 / (10 : Int32)) - (1 : Int32)), am_i (jv_rem a1 (10 : Int32))]) lc_X0_337 rfl (kX0_toldOfVoice G M ((a1 / (10 : Int32)) - (1 : Int32)) (jv_rem a1 (10 : Int32))) rfl rfl rfl rfl rfl rfl dX0_told_55 (fun v2 => ?_)
      refine am_goto (tgt := 66) dX0_told_58 rfl ?_
      exact am_iret dX0_told_66 rfl rfl
  · refine am_aload_n dX0_told_14 rfl rfl ?_
    refine am_iload_n dX0_told_15 rfl rfl ?_
    refine am_bipush dX0_told_16 bp_100 ?_
    refine am_isub dX0_told_18 ?_
    refine am_bipush dX0_told_19 bp_10 ?_
    refine am_idiv dX0_told_21 (by decide) ?_
    refine am_iload_n dX0_told_22 rfl rfl ?_
    refine am_bipush dX0_told_23 bp_10 ?_
    refine am_irem dX0_told_25 (by decide) ?_
    refine am_cVI (as' := [am_i ((a1 - (100 : Int32)) / (10 : Int32)), am_i (jv_rem a1 (10 : Int32))]) lc_X0_332 rfl (kX0_toldOfGallery G M ((a1 - (100 : Int32)) / (10 : Int32)) (jv_rem a1 (10 : Int32))) rfl rfl rfl rfl rfl rfl dX0_told_26 (fun v3 => ?_)
    exact am_iret dX0_told_29 rfl rfl
def fX2_in (a0 : Int32) (a1 : Int32) (a2 : Int32) : Int32 :=
(if a0 < a1 then
(0 : Int32)
 else
(if a2 < a0 then
(0 : Int32)
 else
(1 : Int32)))
theorem bX2_in (a0 : Int32) (a1 : Int32) (a2 : Int32) : fX2_in a0 a1 a2 = 0 ∨ fX2_in a0 a1 a2 = 1 := by
  unfold fX2_in
  repeat' split
  all_goals first | exact Or.inl rfl | exact Or.inr rfl
set_option maxHeartbeats 4000000 in
theorem kX2_in (G : am_G) (M : am_M) (a0 : Int32) (a1 : Int32) (a2 : Int32) : am_C G 1 mX2_in [am_i a0, am_i a1, am_i a2] M (fun r => (some (am_i r), M)) (some (fX2_in a0 a1 a2)) := by
  refine am_met (nL := 3) (ls0 := [some (am_i a0), some (am_i a1), some (am_i a2)]) (by decide) rfl (Nat.le_of_ble_eq_true rfl) (And.intro rfl (And.intro rfl (And.intro rfl trivial))) ?_
  unfold fX2_in
  refine am_iload_n dX2_in_0 rfl rfl ?_
  refine am_iload_n dX2_in_1 rfl rfl ?_
  refine am_icmp_ltS (tgt := 14) dX2_in_2 rfl ?_ ?_
  · refine am_iconst dX2_in_14 ic_0 ?_
    exact am_zret (by decide) dX2_in_15 rfl rfl
  · refine am_iload_n dX2_in_5 rfl rfl ?_
    refine am_iload_n dX2_in_6 rfl rfl ?_
    refine am_icmp_gtS (tgt := 14) dX2_in_7 rfl ?_ ?_
    · refine am_iconst dX2_in_14 ic_0 ?_
      exact am_zret (by decide) dX2_in_15 rfl rfl
    · refine am_iconst dX2_in_10 ic_1 ?_
      refine am_goto (tgt := 15) dX2_in_11 rfl ?_
      exact am_zret (by decide) dX2_in_15 rfl rfl
def fX2_isGallery (a0 : Int32) : Int32 :=
(fX2_in a0 (0 : Int32) (9 : Int32))
theorem bX2_isGallery (a0 : Int32) : fX2_isGallery a0 = 0 ∨ fX2_isGallery a0 = 1 := by
  unfold fX2_isGallery
  exact bX2_in _ _ _ 
set_option maxHeartbeats 4000000 in
theorem kX2_isGallery (G : am_G) (M : am_M) (a0 : Int32) : am_C G 2 mX2_isGallery [am_i a0] M (fun r => (some (am_i r), M)) (some (fX2_isGallery a0)) := by
  refine am_met (nL := 1) (ls0 := [some (am_i a0)]) (by decide) rfl (Nat.le_of_ble_eq_true rfl) (And.intro rfl trivial) ?_
  unfold fX2_isGallery
  refine am_iload_n dX2_isGallery_0 rfl rfl ?_
  refine am_iconst dX2_isGallery_1 ic_0 ?_
  refine am_bipush dX2_isGallery_2 bp_9 ?_
  refine am_cST lc_X2_59 (kX2_in G M a0 (0 : Int32) (9 : Int32)) rfl rfl rfl rfl rfl dX2_isGallery_4 ?_
  exact am_zret (bX2_in _ _ _ ) dX2_isGallery_7 rfl rfl
def fX2_bits_L4 (a0 : Int32) (rec1 : (Int32 × Int32) → Option (Int32 × Int32)) (s2 : (Int32 × Int32)) : Option (Int32 × Int32) :=
(if (10 : Int32) ≤ s2.2 then
some (s2.1, s2.2)
 else
(Option.bind (some (s2.1 + ((a0 >>> (s2.2 &&& 31)) &&& (1 : Int32)))) fun v3 =>
rec1 (v3, (s2.2 + 1))))
def fX2_bits (a0 : Int32) : Option Int32 :=
(Option.bind (am_it (fX2_bits_L4 a0) am_fuel ((0 : Int32), (0 : Int32))) fun (s5 : (Int32 × Int32)) =>
some s5.1)
set_option maxHeartbeats 4000000 in
theorem kX2_bits (G : am_G) (M : am_M) (a0 : Int32) : am_C G 1 mX2_bits [am_i a0] M (fun r => (some (am_i r), M)) (fX2_bits a0) := by
  refine am_met (nL := 3) (ls0 := [some (am_i a0), none, none]) (by decide) rfl (Nat.le_of_ble_eq_true rfl) (And.intro rfl trivial) ?_
  unfold fX2_bits
  refine am_iconst dX2_bits_0 ic_0 ?_
  refine am_istore_n [some (am_i a0), some (am_i (0 : Int32)), none] dX2_bits_1 rfl rfl (Nat.le_of_ble_eq_true rfl) rfl ?_
  refine am_iconst dX2_bits_2 ic_0 ?_
  refine am_istore_n [some (am_i a0), some (am_i (0 : Int32)), some (am_i (0 : Int32))] dX2_bits_3 rfl rfl (Nat.le_of_ble_eq_true rfl) rfl ?_
  refine am_join (β := (Int32 × Int32)) 24 (fun s5 => [none, some (am_i s5.1), none]) (fun _ => []) (fun s5 => M) (fun s5 => ?_) (fun hx4 => ?_)
  · refine am_iload_n dX2_bits_24 rfl rfl ?_
    exact am_iret dX2_bits_25 rfl rfl
  refine am_loop (σ := (Int32 × Int32)) (ls' := fun s1 => [some (am_i a0), some (am_i s1.1), some (am_i s1.2)]) (st' := fun _ => []) (M' := fun s1 => M) (fun rec2 hr3 s1 => ?_) _ _
  unfold fX2_bits_L4
  refine am_iload_n dX2_bits_4 rfl rfl ?_
  refine am_bipush dX2_bits_5 bp_10 ?_
  refine am_icmp_geB (tgt := 24) dX2_bits_7 rfl ?_ ?_
  · exact am_dr (hx4 (s1.1, s1.2)) (And.intro rfl trivial)
  · refine am_iload_n dX2_bits_10 rfl rfl ?_
    refine am_iload_n dX2_bits_11 rfl rfl ?_
    refine am_iload_n dX2_bits_12 rfl rfl ?_
    refine am_ishr dX2_bits_13 ?_
    refine am_iconst dX2_bits_14 ic_1 ?_
    refine am_iand dX2_bits_15 ?_
    refine am_iadd dX2_bits_16 ?_
    refine am_as ?_
    refine am_name (fun v6 => ?_)
    refine am_istore_n [some (am_i a0), some (am_i v6), some (am_i s1.2)] dX2_bits_17 rfl rfl (Nat.le_of_ble_eq_true rfl) rfl ?_
    refine am_iinc [some (am_i a0), some (am_i v6), some (am_i (s1.2 + 1))] dX2_bits_18 rfl ic_1 rfl (Nat.le_of_ble_eq_true rfl) rfl ?_
    refine am_goto (tgt := 4) dX2_bits_21 rfl ?_
    exact hr3 (v6, (s1.2 + 1))
def fX2_passage_L95 (M1 : am_M) (rec2 : (Int32 × Int32) → Option (Int32 × Int32)) (s3 : (Int32 × Int32)) : Option (Int32 × Int32) :=
(if (10 : Int32) ≤ s3.2 then
some (s3.1, s3.2)
 else
(Option.bind (am_rd (M1 1 6) 10 s3.2) fun v4 =>
(Option.bind (fX2_bits v4) fun v5 =>
rec2 ((s3.1 + v5), (s3.2 + 1)))))
def fX2_passage (M : am_M) (a1 : Int32) (a2 : Int32) (a3 : Int32) : Option (Int32 × am_M) :=
(if (fX2_isGallery a1) = 0 then
some ((-1 : Int32), M)
 else
(if (fX2_isGallery a2) = 0 then
some ((-1 : Int32), M)
 else
(if a1 = a2 then
some ((-1 : Int32), M)
 else
(Option.bind (am_rd (M 1 6) 10 a1) fun v1 =>
(Option.bind (am_wr M 1 6 10 a1 (v1 &&& (((1 : Int32) <<< (a2 &&& 31)) ^^^ (-1 : Int32)))) fun M2 =>
(Option.bind (am_rd (M2 1 6) 10 a2) fun v3 =>
(Option.bind (am_wr M2 1 6 10 a2 (v3 &&& (((1 : Int32) <<< (a1 &&& 31)) ^^^ (-1 : Int32)))) fun M4 =>
(Option.bind (am_rd (M4 1 6) 10 a1) fun v5 =>
(Option.bind (if a3 = 0 then
some (0 : Int32)
 else
some ((1 : Int32) <<< (a2 &&& 31))) fun (x6 : Int32) =>
(Option.bind (am_wr M4 1 6 10 a1 (v5 ||| x6)) fun M8 =>
(Option.bind (am_rd (M8 1 6) 10 a2) fun v9 =>
(Option.bind (if a3 = 0 then
some (0 : Int32)
 else
some ((1 : Int32) <<< (a1 &&& 31))) fun (x10 : Int32) =>
(Option.bind (am_wr M8 1 6 10 a2 (v9 ||| x10)) fun M12 =>
(Option.bind (am_it (fX2_passage_L95 M12) am_fuel ((0 : Int32), (0 : Int32))) fun (s17 : (Int32 × Int32)) =>
some ((s17.1 / (2 : Int32)), M12)))))))))))))))
set_option maxHeartbeats 4000000 in
theorem kX2_passage (G : am_G) (M : am_M) (a1 : Int32) (a2 : Int32) (a3 : Int32) : am_C G 3 mX2_passage [am_r 1 0, am_i a1, am_i a2, am_i a3] M (fun r => (some (am_i r.1), r.2)) (fX2_passage M a1 a2 a3) := by
  refine am_met (nL := 6) (ls0 := [some (am_r 1 0), some (am_i a1), some (am_i a2), some (am_i a3), none, none]) (by decide) rfl (Nat.le_of_ble_eq_true rfl) (And.intro rfl (And.intro rfl (And.intro rfl (And.intro rfl trivial)))) ?_
  unfold fX2_passage
  refine am_iload_n dX2_passage_0 rfl rfl ?_
  refine am_cST lc_X2_71 (kX2_isGallery G M a1) rfl rfl rfl rfl rfl dX2_passage_1 ?_
  refine am_if_eq (tgt := 19) dX2_passage_4 rfl ?_ ?_
  · refine am_iconst dX2_passage_19 ic_m1 ?_
    exact am_iret dX2_passage_20 rfl rfl
  · refine am_iload_n dX2_passage_7 rfl rfl ?_
    refine am_cST lc_X2_71 (kX2_isGallery G M a2) rfl rfl rfl rfl rfl dX2_passage_8 ?_
    refine am_if_eq (tgt := 19) dX2_passage_11 rfl ?_ ?_
    · refine am_iconst dX2_passage_19 ic_m1 ?_
      exact am_iret dX2_passage_20 rfl rfl
    · refine am_iload_n dX2_passage_14 rfl rfl ?_
      refine am_iload_n dX2_passage_15 rfl rfl ?_
      refine am_icmp_ne (tgt := 21) dX2_passage_16 rfl ?_ ?_
      · refine am_iconst dX2_passage_19 ic_m1 ?_
        exact am_iret dX2_passage_20 rfl rfl
      · refine am_aload_n dX2_passage_21 rfl rfl ?_
        refine am_getA lf_X2_25 rfl rfl dX2_passage_22 ?_
        refine am_iload_n dX2_passage_25 rfl rfl ?_
        refine am_dup2 dX2_passage_26 rfl rfl ?_
        refine am_iald (β := Unit) rfl dX2_passage_27 (fun v1 => ?_)
        refine am_iconst dX2_passage_28 ic_1 ?_
        refine am_iload_n dX2_passage_29 rfl rfl ?_
        refine am_ishl dX2_passage_30 ?_
        refine am_iconst dX2_passage_31 ic_m1 ?_
        refine am_ixor dX2_passage_32 ?_
        refine am_iand dX2_passage_33 ?_
        refine am_iast rfl dX2_passage_34 (fun M2 => ?_)
        refine am_aload_n dX2_passage_35 rfl rfl ?_
        refine am_getA lf_X2_25 rfl rfl dX2_passage_36 ?_
        refine am_iload_n dX2_passage_39 rfl rfl ?_
        refine am_dup2 dX2_passage_40 rfl rfl ?_
        refine am_iald (β := Unit) rfl dX2_passage_41 (fun v3 => ?_)
        refine am_iconst dX2_passage_42 ic_1 ?_
        refine am_iload_n dX2_passage_43 rfl rfl ?_
        refine am_ishl dX2_passage_44 ?_
        refine am_iconst dX2_passage_45 ic_m1 ?_
        refine am_ixor dX2_passage_46 ?_
        refine am_iand dX2_passage_47 ?_
        refine am_iast rfl dX2_passage_48 (fun M4 => ?_)
        refine am_aload_n dX2_passage_49 rfl rfl ?_
        refine am_getA lf_X2_25 rfl rfl dX2_passage_50 ?_
        refine am_iload_n dX2_passage_53 rfl rfl ?_
        refine am_dup2 dX2_passage_54 rfl rfl ?_
        refine am_iald (β := Unit) rfl dX2_passage_55 (fun v5 => ?_)
        refine am_iload_n dX2_passage_56 rfl rfl ?_
        refine am_join (β := Int32) 67 (fun x6 => [some (am_r 1 0), some (am_i a1), some (am_i a2), some (am_i a3), none, none]) (fun x6 => [am_i x6, am_i v5, am_i a1, am_r 1 7]) (fun x6 => M4) (fun x6 => ?_) (fun hm7 => ?_)
        · refine am_ior dX2_passage_67 ?_
          refine am_iast rfl dX2_passage_68 (fun M8 => ?_)
          refine am_aload_n dX2_passage_69 rfl rfl ?_
          refine am_getA lf_X2_25 rfl rfl dX2_passage_70 ?_
          refine am_iload_n dX2_passage_73 rfl rfl ?_
          refine am_dup2 dX2_passage_74 rfl rfl ?_
          refine am_iald (β := Unit) rfl dX2_passage_75 (fun v9 => ?_)
          refine am_iload_n dX2_passage_76 rfl rfl ?_
          refine am_join (β := Int32) 87 (fun x10 => [some (am_r 1 0), some (am_i a1), some (am_i a2), some (am_i a3), none, none]) (fun x10 => [am_i x10, am_i v9, am_i a2, am_r 1 7]) (fun x10 => M8) (fun x10 => ?_) (fun hm11 => ?_)
          · refine am_ior dX2_passage_87 ?_
            refine am_iast rfl dX2_passage_88 (fun M12 => ?_)
            refine am_iconst dX2_passage_89 ic_0 ?_
            refine am_istore [some (am_r 1 0), some (am_i a1), some (am_i a2), some (am_i a3), some (am_i (0 : Int32)), none] dX2_passage_90 rfl (Nat.le_of_ble_eq_true rfl) rfl ?_
            refine am_iconst dX2_passage_92 ic_0 ?_
            refine am_istore [some (am_r 1 0), some (am_i a1), some (am_i a2), some (am_i a3), some (am_i (0 : Int32)), some (am_i (0 : Int32))] dX2_passage_93 rfl (Nat.le_of_ble_eq_true rfl) rfl ?_
            refine am_join (β := (Int32 × Int32)) 123 (fun s17 => [none, none, none, none, some (am_i s17.1), none]) (fun _ => []) (fun s17 => M12) (fun s17 => ?_) (fun hx16 => ?_)
            · refine am_iload dX2_passage_123 rfl ?_
              refine am_iconst dX2_passage_125 ic_2 ?_
              refine am_idiv dX2_passage_126 (by decide) ?_
              exact am_iret dX2_passage_127 rfl rfl
            refine am_drop (ls' := [some (am_r 1 0), none, none, none, some (am_i (0 : Int32)), some (am_i (0 : Int32))]) (And.intro rfl (And.intro rfl (And.intro rfl trivial))) ?_
            refine am_loop (σ := (Int32 × Int32)) (ls' := fun s13 => [some (am_r 1 0), none, none, none, some (am_i s13.1), some (am_i s13.2)]) (st' := fun _ => []) (M' := fun s13 => M12) (fun rec14 hr15 s13 => ?_) _ _
            unfold fX2_passage_L95
            refine am_iload dX2_passage_95 rfl ?_
            refine am_bipush dX2_passage_97 bp_10 ?_
            refine am_icmp_geB (tgt := 123) dX2_passage_99 rfl ?_ ?_
            · exact am_dr (hx16 (s13.1, s13.2)) (And.intro rfl trivial)
            · refine am_iload dX2_passage_102 rfl ?_
              refine am_aload_n dX2_passage_104 rfl rfl ?_
              refine am_getA lf_X2_25 rfl rfl dX2_passage_105 ?_
              refine am_iload dX2_passage_108 rfl ?_
              refine am_as ?_
              refine am_iald (β := Unit) rfl dX2_passage_110 (fun v18 => ?_)
              refine am_as ?_
              refine am_cSI lc_X2_75 (kX2_bits G M12 v18) rfl rfl rfl rfl rfl dX2_passage_111 (fun v19 => ?_)
              refine am_iadd dX2_passage_114 ?_
              refine am_istore [some (am_r 1 0), none, none, none, some (am_i (s13.1 + v19)), some (am_i s13.2)] dX2_passage_115 rfl (Nat.le_of_ble_eq_true rfl) rfl ?_
              refine am_iinc [some (am_r 1 0), none, none, none, some (am_i (s13.1 + v19)), some (am_i (s13.2 + 1))] dX2_passage_117 rfl ic_1 rfl (Nat.le_of_ble_eq_true rfl) rfl ?_
              refine am_goto (tgt := 95) dX2_passage_120 rfl ?_
              exact hr15 ((s13.1 + v19), (s13.2 + 1))
          refine am_if_eqB (tgt := 86) dX2_passage_77 rfl ?_ ?_
          · refine am_iconst dX2_passage_86 ic_0 ?_
            exact hm11 (0 : Int32)
          · refine am_iconst dX2_passage_80 ic_1 ?_
            refine am_iload_n dX2_passage_81 rfl rfl ?_
            refine am_ishl dX2_passage_82 ?_
            refine am_goto (tgt := 87) dX2_passage_83 rfl ?_
            exact hm11 ((1 : Int32) <<< (a1 &&& 31))
        refine am_if_eqB (tgt := 66) dX2_passage_57 rfl ?_ ?_
        · refine am_iconst dX2_passage_66 ic_0 ?_
          exact hm7 (0 : Int32)
        · refine am_iconst dX2_passage_60 ic_1 ?_
          refine am_iload_n dX2_passage_61 rfl rfl ?_
          refine am_ishl dX2_passage_62 ?_
          refine am_goto (tgt := 67) dX2_passage_63 rfl ?_
          exact hm7 ((1 : Int32) <<< (a2 &&& 31))
def fX2_gallery (M : am_M) (a1 : Int32) (a2 : Int32) (a3 : Int32) : Option (Int32 × am_M) :=
(if (fX2_isGallery a1) = 0 then
some ((-1 : Int32), M)
 else
(if (fX2_isGallery a2) = 0 then
some ((-1 : Int32), M)
 else
(Option.bind (am_rd (M 1 7) 10 a1) fun v1 =>
(Option.bind (am_wr M 1 7 10 a1 a2) fun M2 =>
(Option.bind (if a3 = 0 then
some (0 : Int32)
 else
some ((1 : Int32) <<< (a1 &&& 31))) fun (x3 : Int32) =>
some (v1, (am_put (am_put M2 1 8 ((M2 1 8 0) &&& (((1 : Int32) <<< (a1 &&& 31)) ^^^ (-1 : Int32)))) 1 8 (((am_put M2 1 8 ((M2 1 8 0) &&& (((1 : Int32) <<< (a1 &&& 31)) ^^^ (-1 : Int32)))) 1 8 0) ||| x3))))))))
set_option maxHeartbeats 4000000 in
theorem kX2_gallery (G : am_G) (M : am_M) (a1 : Int32) (a2 : Int32) (a3 : Int32) : am_C G 3 mX2_gallery [am_r 1 0, am_i a1, am_i a2, am_i a3] M (fun r => (some (am_i r.1), r.2)) (fX2_gallery M a1 a2 a3) := by
  refine am_met (nL := 5) (ls0 := [some (am_r 1 0), some (am_i a1), some (am_i a2), some (am_i a3), none]) (by decide) rfl (Nat.le_of_ble_eq_true rfl) (And.intro rfl (And.intro rfl (And.intro rfl (And.intro rfl trivial)))) ?_
  unfold fX2_gallery
  refine am_iload_n dX2_gallery_0 rfl rfl ?_
  refine am_cST lc_X2_71 (kX2_isGallery G M a1) rfl rfl rfl rfl rfl dX2_gallery_1 ?_
  refine am_if_eq (tgt := 14) dX2_gallery_4 rfl ?_ ?_
  · refine am_iconst dX2_gallery_14 ic_m1 ?_
    exact am_iret dX2_gallery_15 rfl rfl
  · refine am_iload_n dX2_gallery_7 rfl rfl ?_
    refine am_cST lc_X2_71 (kX2_isGallery G M a2) rfl rfl rfl rfl rfl dX2_gallery_8 ?_
    refine am_if_ne (tgt := 16) dX2_gallery_11 rfl ?_ ?_
    · refine am_iconst dX2_gallery_14 ic_m1 ?_
      exact am_iret dX2_gallery_15 rfl rfl
    · refine am_aload_n dX2_gallery_16 rfl rfl ?_
      refine am_getA lf_X2_28 rfl rfl dX2_gallery_17 ?_
      refine am_iload_n dX2_gallery_20 rfl rfl ?_
      refine am_iald (β := Unit) rfl dX2_gallery_21 (fun v1 => ?_)
      refine am_istore [some (am_r 1 0), some (am_i a1), some (am_i a2), some (am_i a3), some (am_i v1)] dX2_gallery_22 rfl (Nat.le_of_ble_eq_true rfl) rfl ?_
      refine am_aload_n dX2_gallery_24 rfl rfl ?_
      refine am_getA lf_X2_28 rfl rfl dX2_gallery_25 ?_
      refine am_iload_n dX2_gallery_28 rfl rfl ?_
      refine am_iload_n dX2_gallery_29 rfl rfl ?_
      refine am_iast rfl dX2_gallery_30 (fun M2 => ?_)
      refine am_aload_n dX2_gallery_31 rfl rfl ?_
      refine am_dup dX2_gallery_32 rfl ?_
      refine am_get lf_X2_79 rfl rfl dX2_gallery_33 ?_
      refine am_iconst dX2_gallery_36 ic_1 ?_
      refine am_iload_n dX2_gallery_37 rfl rfl ?_
      refine am_ishl dX2_gallery_38 ?_
      refine am_iconst dX2_gallery_39 ic_m1 ?_
      refine am_ixor dX2_gallery_40 ?_
      refine am_iand dX2_gallery_41 ?_
      refine am_putf lf_X2_79 rfl rfl dX2_gallery_42 ?_
      refine am_aload_n dX2_gallery_45 rfl rfl ?_
      refine am_dup dX2_gallery_46 rfl ?_
      refine am_get lf_X2_79 rfl rfl dX2_gallery_47 ?_
      refine am_iload_n dX2_gallery_50 rfl rfl ?_
      refine am_join (β := Int32) 61 (fun x3 => [some (am_r 1 0), some (am_i a1), some (am_i a2), some (am_i a3), some (am_i v1)]) (fun x3 => [am_i x3, am_i ((am_put M2 1 8 ((M2 1 8 0) &&& (((1 : Int32) <<< (a1 &&& 31)) ^^^ (-1 : Int32)))) 1 8 0), am_r 1 0]) (fun x3 => (am_put M2 1 8 ((M2 1 8 0) &&& (((1 : Int32) <<< (a1 &&& 31)) ^^^ (-1 : Int32))))) (fun x3 => ?_) (fun hm4 => ?_)
      · refine am_ior dX2_gallery_61 ?_
        refine am_putf lf_X2_79 rfl rfl dX2_gallery_62 ?_
        refine am_iload dX2_gallery_65 rfl ?_
        exact am_iret dX2_gallery_67 rfl rfl
      refine am_if_eqB (tgt := 60) dX2_gallery_51 rfl ?_ ?_
      · refine am_iconst dX2_gallery_60 ic_0 ?_
        exact hm4 (0 : Int32)
      · refine am_iconst dX2_gallery_54 ic_1 ?_
        refine am_iload_n dX2_gallery_55 rfl rfl ?_
        refine am_ishl dX2_gallery_56 ?_
        refine am_goto (tgt := 61) dX2_gallery_57 rfl ?_
        exact hm4 ((1 : Int32) <<< (a1 &&& 31))
def fX2_voice (M : am_M) (a1 : Int32) (a2 : Int32) (a3 : Int32) (a4 : Int32) (a5 : Int32) : Option (Int32 × am_M) :=
(if (fX2_in a1 (0 : Int32) (7 : Int32)) = 0 then
some ((-1 : Int32), M)
 else
(if (fX2_isGallery a5) = 0 then
some ((-1 : Int32), M)
 else
(if (fX2_in a2 (0 : Int32) (23 : Int32)) = 0 then
some ((-2 : Int32), M)
 else
(if (fX2_in a3 a2 (23 : Int32)) = 0 then
some ((-2 : Int32), M)
 else
(if (fX2_in a4 (0 : Int32) (99 : Int32)) = 0 then
some ((-2 : Int32), M)
 else
(Option.bind (am_wr (am_put M 1 2 ((M 1 2 0) ||| ((1 : Int32) <<< (a1 &&& 31)))) 1 3 8 a1 a2) fun M1 =>
(Option.bind (am_wr M1 1 4 8 a1 a3) fun M2 =>
(Option.bind (am_wr M2 1 5 8 a1 a4) fun M3 =>
(Option.bind (am_wr M3 1 0 36 a1 (-6 : Int32)) fun M4 =>
(Option.bind (am_wr M4 1 0 36 ((8 : Int32) + a1) a4) fun M5 =>
(Option.bind (am_wr M5 1 0 36 ((16 : Int32) + a1) a5) fun M6 =>
(Option.bind (fX2_bits (M6 1 2 0)) fun v7 =>
some (v7, M6)))))))))))))
set_option maxHeartbeats 4000000 in
theorem kX2_voice (G : am_G) (M : am_M) (a1 : Int32) (a2 : Int32) (a3 : Int32) (a4 : Int32) (a5 : Int32) : am_C G 3 mX2_voice [am_r 1 0, am_i a1, am_i a2, am_i a3, am_i a4, am_i a5] M (fun r => (some (am_i r.1), r.2)) (fX2_voice M a1 a2 a3 a4 a5) := by
  refine am_met (nL := 6) (ls0 := [some (am_r 1 0), some (am_i a1), some (am_i a2), some (am_i a3), some (am_i a4), some (am_i a5)]) (by decide) rfl (Nat.le_of_ble_eq_true rfl) (And.intro rfl (And.intro rfl (And.intro rfl (And.intro rfl (And.intro rfl (And.intro rfl trivial)))))) ?_
  unfold fX2_voice
  refine am_iload_n dX2_voice_0 rfl rfl ?_
  refine am_iconst dX2_voice_1 ic_0 ?_
  refine am_bipush dX2_voice_2 bp_7 ?_
  refine am_cST lc_X2_59 (kX2_in G M a1 (0 : Int32) (7 : Int32)) rfl rfl rfl rfl rfl dX2_voice_4 ?_
  refine am_if_eq (tgt := 18) dX2_voice_7 rfl ?_ ?_
  · refine am_iconst dX2_voice_18 ic_m1 ?_
    exact am_iret dX2_voice_19 rfl rfl
  · refine am_iload dX2_voice_10 rfl ?_
    refine am_cST lc_X2_71 (kX2_isGallery G M a5) rfl rfl rfl rfl rfl dX2_voice_12 ?_
    refine am_if_ne (tgt := 20) dX2_voice_15 rfl ?_ ?_
    · refine am_iconst dX2_voice_18 ic_m1 ?_
      exact am_iret dX2_voice_19 rfl rfl
    · refine am_iload_n dX2_voice_20 rfl rfl ?_
      refine am_iconst dX2_voice_21 ic_0 ?_
      refine am_bipush dX2_voice_22 bp_23 ?_
      refine am_cST lc_X2_59 (kX2_in G M a2 (0 : Int32) (23 : Int32)) rfl rfl rfl rfl rfl dX2_voice_24 ?_
      refine am_if_eq (tgt := 51) dX2_voice_27 rfl ?_ ?_
      · refine am_bipush dX2_voice_51 bp_m2 ?_
        exact am_iret dX2_voice_53 rfl rfl
      · refine am_iload_n dX2_voice_30 rfl rfl ?_
        refine am_iload_n dX2_voice_31 rfl rfl ?_
        refine am_bipush dX2_voice_32 bp_23 ?_
        refine am_cST lc_X2_59 (kX2_in G M a3 a2 (23 : Int32)) rfl rfl rfl rfl rfl dX2_voice_34 ?_
        refine am_if_eq (tgt := 51) dX2_voice_37 rfl ?_ ?_
        · refine am_bipush dX2_voice_51 bp_m2 ?_
          exact am_iret dX2_voice_53 rfl rfl
        · refine am_iload dX2_voice_40 rfl ?_
          refine am_iconst dX2_voice_42 ic_0 ?_
          refine am_bipush dX2_voice_43 bp_99 ?_
          refine am_cST lc_X2_59 (kX2_in G M a4 (0 : Int32) (99 : Int32)) rfl rfl rfl rfl rfl dX2_voice_45 ?_
          refine am_if_ne (tgt := 54) dX2_voice_48 rfl ?_ ?_
          · refine am_bipush dX2_voice_51 bp_m2 ?_
            exact am_iret dX2_voice_53 rfl rfl
          · refine am_aload_n dX2_voice_54 rfl rfl ?_
            refine am_dup dX2_voice_55 rfl ?_
            refine am_get lf_X2_63 rfl rfl dX2_voice_56 ?_
            refine am_iconst dX2_voice_59 ic_1 ?_
            refine am_iload_n dX2_voice_60 rfl rfl ?_
            refine am_ishl dX2_voice_61 ?_
            refine am_ior dX2_voice_62 ?_
            refine am_putf lf_X2_63 rfl rfl dX2_voice_63 ?_
            refine am_aload_n dX2_voice_66 rfl rfl ?_
            refine am_getA lf_X2_16 rfl rfl dX2_voice_67 ?_
            refine am_iload_n dX2_voice_70 rfl rfl ?_
            refine am_iload_n dX2_voice_71 rfl rfl ?_
            refine am_iast rfl dX2_voice_72 (fun M1 => ?_)
            refine am_aload_n dX2_voice_73 rfl rfl ?_
            refine am_getA lf_X2_19 rfl rfl dX2_voice_74 ?_
            refine am_iload_n dX2_voice_77 rfl rfl ?_
            refine am_iload_n dX2_voice_78 rfl rfl ?_
            refine am_iast rfl dX2_voice_79 (fun M2 => ?_)
            refine am_aload_n dX2_voice_80 rfl rfl ?_
            refine am_getA lf_X2_22 rfl rfl dX2_voice_81 ?_
            refine am_iload_n dX2_voice_84 rfl rfl ?_
            refine am_iload dX2_voice_85 rfl ?_
            refine am_iast rfl dX2_voice_87 (fun M3 => ?_)
            refine am_aload_n dX2_voice_88 rfl rfl ?_
            refine am_getA lf_X2_7 rfl rfl dX2_voice_89 ?_
            refine am_iload_n dX2_voice_92 rfl rfl ?_
            refine am_bipush dX2_voice_93 bp_m6 ?_
            refine am_iast rfl dX2_voice_95 (fun M4 => ?_)
            refine am_aload_n dX2_voice_96 rfl rfl ?_
            refine am_getA lf_X2_7 rfl rfl dX2_voice_97 ?_
            refine am_bipush dX2_voice_100 bp_8 ?_
            refine am_iload_n dX2_voice_102 rfl rfl ?_
            refine am_iadd dX2_voice_103 ?_
            refine am_iload dX2_voice_104 rfl ?_
            refine am_iast rfl dX2_voice_106 (fun M5 => ?_)
            refine am_aload_n dX2_voice_107 rfl rfl ?_
            refine am_getA lf_X2_7 rfl rfl dX2_voice_108 ?_
            refine am_bipush dX2_voice_111 bp_16 ?_
            refine am_iload_n dX2_voice_113 rfl rfl ?_
            refine am_iadd dX2_voice_114 ?_
            refine am_iload dX2_voice_115 rfl ?_
            refine am_iast rfl dX2_voice_117 (fun M6 => ?_)
            refine am_aload_n dX2_voice_118 rfl rfl ?_
            refine am_get lf_X2_63 rfl rfl dX2_voice_119 ?_
            refine am_cSI lc_X2_75 (kX2_bits G M6 (M6 1 2 0)) rfl rfl rfl rfl rfl dX2_voice_122 (fun v7 => ?_)
            exact am_iret dX2_voice_125 rfl rfl
def fX2_has (a0 : Int32) (a1 : Int32) : Int32 :=
(if ((a0 >>> (a1 &&& 31)) &&& (1 : Int32)) = (1 : Int32) then
(1 : Int32)
 else
(0 : Int32))
theorem bX2_has (a0 : Int32) (a1 : Int32) : fX2_has a0 a1 = 0 ∨ fX2_has a0 a1 = 1 := by
  unfold fX2_has
  repeat' split
  all_goals first | exact Or.inl rfl | exact Or.inr rfl
set_option maxHeartbeats 4000000 in
theorem kX2_has (G : am_G) (M : am_M) (a0 : Int32) (a1 : Int32) : am_C G 1 mX2_has [am_i a0, am_i a1] M (fun r => (some (am_i r), M)) (some (fX2_has a0 a1)) := by
  refine am_met (nL := 2) (ls0 := [some (am_i a0), some (am_i a1)]) (by decide) rfl (Nat.le_of_ble_eq_true rfl) (And.intro rfl (And.intro rfl trivial)) ?_
  unfold fX2_has
  refine am_iload_n dX2_has_0 rfl rfl ?_
  refine am_iload_n dX2_has_1 rfl rfl ?_
  refine am_ishr dX2_has_2 ?_
  refine am_iconst dX2_has_3 ic_1 ?_
  refine am_iand dX2_has_4 ?_
  refine am_iconst dX2_has_5 ic_1 ?_
  refine am_icmp_neS (tgt := 13) dX2_has_6 rfl ?_ ?_
  · refine am_iconst dX2_has_9 ic_1 ?_
    refine am_goto (tgt := 14) dX2_has_10 rfl ?_
    exact am_zret (by decide) dX2_has_14 rfl rfl
  · refine am_iconst dX2_has_13 ic_0 ?_
    exact am_zret (by decide) dX2_has_14 rfl rfl
def fX2_isThere (m : Nat → Nat → Int32) (a1 : Int32) : Int32 :=
(if (fX2_in a1 (0 : Int32) (7 : Int32)) = 0 then
(0 : Int32)
 else
(if (fX2_has (m 2 0) a1) = 0 then
(0 : Int32)
 else
(1 : Int32)))
theorem bX2_isThere (m : Nat → Nat → Int32) (a1 : Int32) : fX2_isThere m a1 = 0 ∨ fX2_isThere m a1 = 1 := by
  unfold fX2_isThere
  repeat' split
  all_goals first | exact Or.inl rfl | exact Or.inr rfl
set_option maxHeartbeats 4000000 in
theorem kX2_isThere (G : am_G) (M : am_M) (a1 : Int32) : am_C G 2 mX2_isThere [am_r 1 0, am_i a1] M (fun r => (some (am_i r), M)) (some (fX2_isThere (M 1) a1)) := by
  refine am_met (nL := 2) (ls0 := [some (am_r 1 0), some (am_i a1)]) (by decide) rfl (Nat.le_of_ble_eq_true rfl) (And.intro rfl (And.intro rfl trivial)) ?_
  unfold fX2_isThere
  refine am_iload_n dX2_isThere_0 rfl rfl ?_
  refine am_iconst dX2_isThere_1 ic_0 ?_
  refine am_bipush dX2_isThere_2 bp_7 ?_
  refine am_cST lc_X2_59 (kX2_in G M a1 (0 : Int32) (7 : Int32)) rfl rfl rfl rfl rfl dX2_isThere_4 ?_
  refine am_if_eqS (tgt := 25) dX2_isThere_7 rfl ?_ ?_
  · refine am_iconst dX2_isThere_25 ic_0 ?_
    exact am_zret (by decide) dX2_isThere_26 rfl rfl
  · refine am_aload_n dX2_isThere_10 rfl rfl ?_
    refine am_get lf_X2_63 rfl rfl dX2_isThere_11 ?_
    refine am_iload_n dX2_isThere_14 rfl rfl ?_
    refine am_cST lc_X2_67 (kX2_has G M ((M 1) 2 0) a1) rfl rfl rfl rfl rfl dX2_isThere_15 ?_
    refine am_if_eqS (tgt := 25) dX2_isThere_18 rfl ?_ ?_
    · refine am_iconst dX2_isThere_25 ic_0 ?_
      exact am_zret (by decide) dX2_isThere_26 rfl rfl
    · refine am_iconst dX2_isThere_21 ic_1 ?_
      refine am_goto (tgt := 26) dX2_isThere_22 rfl ?_
      exact am_zret (by decide) dX2_isThere_26 rfl rfl
def fX2_breath (M : am_M) (a1 : Int32) (a2 : Int32) : Option (Int32 × am_M) :=
(if (fX2_isThere (M 1) a1) = 0 then
some ((-1 : Int32), M)
 else
(Option.bind (am_rd (M 1 5) 8 a1) fun v1 =>
(if (fX2_in a2 (0 : Int32) v1) = 0 then
some ((-2 : Int32), M)
 else
(Option.bind (am_rd (M 1 0) 36 ((8 : Int32) + a1)) fun v2 =>
(Option.bind (am_wr M 1 0 36 ((8 : Int32) + a1) a2) fun M3 =>
(Option.bind (if a2 = 0 then
some (-6 : Int32)
 else
(Option.bind (am_rd (M3 1 0) 36 a1) fun v6 =>
some v6)) fun (x4 : Int32) =>
(Option.bind (am_wr M3 1 0 36 a1 x4) fun M7 =>
some (v2, M7))))))))
set_option maxHeartbeats 4000000 in
theorem kX2_breath (G : am_G) (M : am_M) (a1 : Int32) (a2 : Int32) : am_C G 3 mX2_breath [am_r 1 0, am_i a1, am_i a2] M (fun r => (some (am_i r.1), r.2)) (fX2_breath M a1 a2) := by
  refine am_met (nL := 4) (ls0 := [some (am_r 1 0), some (am_i a1), some (am_i a2), none]) (by decide) rfl (Nat.le_of_ble_eq_true rfl) (And.intro rfl (And.intro rfl (And.intro rfl trivial))) ?_
  unfold fX2_breath
  refine am_aload_n dX2_breath_0 rfl rfl ?_
  refine am_iload_n dX2_breath_1 rfl rfl ?_
  refine am_cVT (as' := [am_i a1]) lc_X2_82 rfl (kX2_isThere G M a1) rfl rfl rfl rfl rfl rfl dX2_breath_2 ?_
  refine am_if_ne (tgt := 10) dX2_breath_5 rfl ?_ ?_
  · refine am_iconst dX2_breath_8 ic_m1 ?_
    exact am_iret dX2_breath_9 rfl rfl
  · refine am_iload_n dX2_breath_10 rfl rfl ?_
    refine am_iconst dX2_breath_11 ic_0 ?_
    refine am_aload_n dX2_breath_12 rfl rfl ?_
    refine am_getA lf_X2_22 rfl rfl dX2_breath_13 ?_
    refine am_iload_n dX2_breath_16 rfl rfl ?_
    refine am_iald (β := Unit) rfl dX2_breath_17 (fun v1 => ?_)
    refine am_cST lc_X2_59 (kX2_in G M a2 (0 : Int32) v1) rfl rfl rfl rfl rfl dX2_breath_18 ?_
    refine am_if_ne (tgt := 27) dX2_breath_21 rfl ?_ ?_
    · refine am_bipush dX2_breath_24 bp_m2 ?_
      exact am_iret dX2_breath_26 rfl rfl
    · refine am_aload_n dX2_breath_27 rfl rfl ?_
      refine am_getA lf_X2_7 rfl rfl dX2_breath_28 ?_
      refine am_bipush dX2_breath_31 bp_8 ?_
      refine am_iload_n dX2_breath_33 rfl rfl ?_
      refine am_iadd dX2_breath_34 ?_
      refine am_iald (β := Unit) rfl dX2_breath_35 (fun v2 => ?_)
      refine am_istore_n [some (am_r 1 0), some (am_i a1), some (am_i a2), some (am_i v2)] dX2_breath_36 rfl rfl (Nat.le_of_ble_eq_true rfl) rfl ?_
      refine am_aload_n dX2_breath_37 rfl rfl ?_
      refine am_getA lf_X2_7 rfl rfl dX2_breath_38 ?_
      refine am_bipush dX2_breath_41 bp_8 ?_
      refine am_iload_n dX2_breath_43 rfl rfl ?_
      refine am_iadd dX2_breath_44 ?_
      refine am_iload_n dX2_breath_45 rfl rfl ?_
      refine am_iast rfl dX2_breath_46 (fun M3 => ?_)
      refine am_aload_n dX2_breath_47 rfl rfl ?_
      refine am_getA lf_X2_7 rfl rfl dX2_breath_48 ?_
      refine am_iload_n dX2_breath_51 rfl rfl ?_
      refine am_iload_n dX2_breath_52 rfl rfl ?_
      refine am_join (β := Int32) 67 (fun x4 => [some (am_r 1 0), some (am_i a1), some (am_i a2), some (am_i v2)]) (fun x4 => [am_i x4, am_i a1, am_r 1 1]) (fun x4 => M3) (fun x4 => ?_) (fun hm5 => ?_)
      · refine am_iast rfl dX2_breath_67 (fun M7 => ?_)
        refine am_iload_n dX2_breath_68 rfl rfl ?_
        exact am_iret dX2_breath_69 rfl rfl
      refine am_if_neB (tgt := 61) dX2_breath_53 rfl ?_ ?_
      · refine am_bipush dX2_breath_56 bp_m6 ?_
        refine am_goto (tgt := 67) dX2_breath_58 rfl ?_
        exact hm5 (-6 : Int32)
      · refine am_aload_n dX2_breath_61 rfl rfl ?_
        refine am_getA lf_X2_7 rfl rfl dX2_breath_62 ?_
        refine am_iload_n dX2_breath_65 rfl rfl ?_
        refine am_as ?_
        refine am_iald (β := Unit) rfl dX2_breath_66 (fun v6 => ?_)
        exact hm5 v6
def fX2_leave (M : am_M) (a1 : Int32) : Option (Int32 × am_M) :=
(if (fX2_isThere (M 1) a1) = 0 then
some ((-1 : Int32), M)
 else
(Option.bind (fX2_bits ((am_put M 1 2 ((M 1 2 0) &&& (((1 : Int32) <<< (a1 &&& 31)) ^^^ (-1 : Int32)))) 1 2 0)) fun v1 =>
some (v1, (am_put M 1 2 ((M 1 2 0) &&& (((1 : Int32) <<< (a1 &&& 31)) ^^^ (-1 : Int32)))))))
set_option maxHeartbeats 4000000 in
theorem kX2_leave (G : am_G) (M : am_M) (a1 : Int32) : am_C G 3 mX2_leave [am_r 1 0, am_i a1] M (fun r => (some (am_i r.1), r.2)) (fX2_leave M a1) := by
  refine am_met (nL := 2) (ls0 := [some (am_r 1 0), some (am_i a1)]) (by decide) rfl (Nat.le_of_ble_eq_true rfl) (And.intro rfl (And.intro rfl trivial)) ?_
  unfold fX2_leave
  refine am_aload_n dX2_leave_0 rfl rfl ?_
  refine am_iload_n dX2_leave_1 rfl rfl ?_
  refine am_cVT (as' := [am_i a1]) lc_X2_82 rfl (kX2_isThere G M a1) rfl rfl rfl rfl rfl rfl dX2_leave_2 ?_
  refine am_if_ne (tgt := 10) dX2_leave_5 rfl ?_ ?_
  · refine am_iconst dX2_leave_8 ic_m1 ?_
    exact am_iret dX2_leave_9 rfl rfl
  · refine am_aload_n dX2_leave_10 rfl rfl ?_
    refine am_dup dX2_leave_11 rfl ?_
    refine am_get lf_X2_63 rfl rfl dX2_leave_12 ?_
    refine am_iconst dX2_leave_15 ic_1 ?_
    refine am_iload_n dX2_leave_16 rfl rfl ?_
    refine am_ishl dX2_leave_17 ?_
    refine am_iconst dX2_leave_18 ic_m1 ?_
    refine am_ixor dX2_leave_19 ?_
    refine am_iand dX2_leave_20 ?_
    refine am_putf lf_X2_63 rfl rfl dX2_leave_21 ?_
    refine am_aload_n dX2_leave_24 rfl rfl ?_
    refine am_get lf_X2_63 rfl rfl dX2_leave_25 ?_
    refine am_cSI lc_X2_75 (kX2_bits G (am_put M 1 2 ((M 1 2 0) &&& (((1 : Int32) <<< (a1 &&& 31)) ^^^ (-1 : Int32)))) ((am_put M 1 2 ((M 1 2 0) &&& (((1 : Int32) <<< (a1 &&& 31)) ^^^ (-1 : Int32)))) 1 2 0)) rfl rfl rfl rfl rfl dX2_leave_28 (fun v1 => ?_)
    exact am_iret dX2_leave_31 rfl rfl
def fX2_say (M : am_M) (a1 : Int32) : Option (Int32 × am_M) :=
(if (fX2_in a1 (33 : Int32) (126 : Int32)) = 0 then
some ((-2 : Int32), M)
 else
(if (M 1 11 0) = (60 : Int32) then
some ((-4 : Int32), M)
 else
(Option.bind (am_wr M 1 12 60 (M 1 11 0) a1) fun M1 =>
some (((am_put M1 1 11 ((M1 1 11 0) + (1 : Int32))) 1 11 0), (am_put M1 1 11 ((M1 1 11 0) + (1 : Int32)))))))
set_option maxHeartbeats 4000000 in
theorem kX2_say (G : am_G) (M : am_M) (a1 : Int32) : am_C G 2 mX2_say [am_r 1 0, am_i a1] M (fun r => (some (am_i r.1), r.2)) (fX2_say M a1) := by
  refine am_met (nL := 2) (ls0 := [some (am_r 1 0), some (am_i a1)]) (by decide) rfl (Nat.le_of_ble_eq_true rfl) (And.intro rfl (And.intro rfl trivial)) ?_
  unfold fX2_say
  refine am_iload_n dX2_say_0 rfl rfl ?_
  refine am_bipush dX2_say_1 bp_33 ?_
  refine am_bipush dX2_say_3 bp_126 ?_
  refine am_cST lc_X2_59 (kX2_in G M a1 (33 : Int32) (126 : Int32)) rfl rfl rfl rfl rfl dX2_say_5 ?_
  refine am_if_ne (tgt := 14) dX2_say_8 rfl ?_ ?_
  · refine am_bipush dX2_say_11 bp_m2 ?_
    exact am_iret dX2_say_13 rfl rfl
  · refine am_aload_n dX2_say_14 rfl rfl ?_
    refine am_get lf_X2_85 rfl rfl dX2_say_15 ?_
    refine am_bipush dX2_say_18 bp_60 ?_
    refine am_icmp_ne (tgt := 26) dX2_say_20 rfl ?_ ?_
    · refine am_bipush dX2_say_23 bp_m4 ?_
      exact am_iret dX2_say_25 rfl rfl
    · refine am_aload_n dX2_say_26 rfl rfl ?_
      refine am_getA lf_X2_34 rfl rfl dX2_say_27 ?_
      refine am_aload_n dX2_say_30 rfl rfl ?_
      refine am_get lf_X2_85 rfl rfl dX2_say_31 ?_
      refine am_iload_n dX2_say_34 rfl rfl ?_
      refine am_iast rfl dX2_say_35 (fun M1 => ?_)
      refine am_aload_n dX2_say_36 rfl rfl ?_
      refine am_dup dX2_say_37 rfl ?_
      refine am_get lf_X2_85 rfl rfl dX2_say_38 ?_
      refine am_iconst dX2_say_41 ic_1 ?_
      refine am_iadd dX2_say_42 ?_
      refine am_putf lf_X2_85 rfl rfl dX2_say_43 ?_
      refine am_aload_n dX2_say_46 rfl rfl ?_
      refine am_get lf_X2_85 rfl rfl dX2_say_47 ?_
      exact am_iret dX2_say_50 rfl rfl
def fX2_wipe (M : am_M) : Option (Int32 × am_M) :=
some ((M 1 11 0), (am_put M 1 11 (0 : Int32)))
set_option maxHeartbeats 4000000 in
theorem kX2_wipe (G : am_G) (M : am_M)  : am_C G 1 mX2_wipe [am_r 1 0] M (fun r => (some (am_i r.1), r.2)) (fX2_wipe M) := by
  refine am_met (nL := 2) (ls0 := [some (am_r 1 0), none]) (by decide) rfl (Nat.le_of_ble_eq_true rfl) (And.intro rfl trivial) ?_
  unfold fX2_wipe
  refine am_aload_n dX2_wipe_0 rfl rfl ?_
  refine am_get lf_X2_85 rfl rfl dX2_wipe_1 ?_
  refine am_istore_n [some (am_r 1 0), some (am_i (M 1 11 0))] dX2_wipe_4 rfl rfl (Nat.le_of_ble_eq_true rfl) rfl ?_
  refine am_aload_n dX2_wipe_5 rfl rfl ?_
  refine am_iconst dX2_wipe_6 ic_0 ?_
  refine am_putf lf_X2_85 rfl rfl dX2_wipe_7 ?_
  refine am_iload_n dX2_wipe_10 rfl rfl ?_
  exact am_iret dX2_wipe_11 rfl rfl
def fX2_faultOf_L4 (m : Nat → Nat → Int32) (rec1 : (Int32 × Int32) → Option (Int32 ⊕ (Int32 × Int32))) (s2 : (Int32 × Int32)) : Option (Int32 ⊕ (Int32 × Int32)) :=
(if (m 11 0) ≤ s2.2 then
some (.inr (s2.1, s2.2))
 else
(Option.bind (am_rd (m 12) 60 s2.2) fun v3 =>
(Option.bind (if s2.1 = 0 then
(if (fX2_in v3 (65 : Int32) (72 : Int32)) = 0 then
(if v3 = (42 : Int32) then
some (1 : Int32)
 else
(if v3 = (46 : Int32) then
some (1 : Int32)
 else
some (0 : Int32)))
 else
some (1 : Int32))
 else
(if s2.1 = (1 : Int32) then
(if (fX2_in v3 (97 : Int32) (120 : Int32)) = 0 then
(if v3 = (45 : Int32) then
some (1 : Int32)
 else
(if v3 = (62 : Int32) then
some (1 : Int32)
 else
some (0 : Int32)))
 else
some (1 : Int32))
 else
some (fX2_in v3 (48 : Int32) (57 : Int32)))) fun (x4 : Int32) =>
(if x4 = 0 then
some (.inl s2.2)
 else
(Option.bind (if s2.1 = 0 then
(if v3 = (46 : Int32) then
some (0 : Int32)
 else
(if v3 = (42 : Int32) then
some (2 : Int32)
 else
some (1 : Int32)))
 else
(if s2.1 = (1 : Int32) then
(if v3 = (62 : Int32) then
some (2 : Int32)
 else
some (0 : Int32))
 else
some (0 : Int32))) fun (x5 : Int32) =>
rec1 (x5, (s2.2 + 1)))))))
def fX2_faultOf (m : Nat → Nat → Int32) : Option Int32 :=
(Option.bind (am_it (fX2_faultOf_L4 m) am_fuel ((0 : Int32), (0 : Int32))) (Sum.elim some fun (s5 : (Int32 × Int32)) =>
(if s5.1 = 0 then
some (-6 : Int32)
 else
some (m 11 0))))
set_option maxHeartbeats 4000000 in
theorem kX2_faultOf (G : am_G) (M : am_M)  : am_C G 2 mX2_faultOf [am_r 1 0] M (fun r => (some (am_i r), M)) (fX2_faultOf (M 1)) := by
  refine am_met (nL := 5) (ls0 := [some (am_r 1 0), none, none, none, none]) (by decide) rfl (Nat.le_of_ble_eq_true rfl) (And.intro rfl trivial) ?_
  unfold fX2_faultOf
  refine am_iconst dX2_faultOf_0 ic_0 ?_
  refine am_istore_n [some (am_r 1 0), some (am_i (0 : Int32)), none, none, none] dX2_faultOf_1 rfl rfl (Nat.le_of_ble_eq_true rfl) rfl ?_
  refine am_iconst dX2_faultOf_2 ic_0 ?_
  refine am_istore_n [some (am_r 1 0), some (am_i (0 : Int32)), some (am_i (0 : Int32)), none, none] dX2_faultOf_3 rfl rfl (Nat.le_of_ble_eq_true rfl) rfl ?_
  refine am_joinR (S := (Int32 × Int32)) 158 (fun s5 => [some (am_r 1 0), some (am_i s5.1), none, none, none]) (fun _ => []) (fun s5 => M) (fun s5 => ?_) (fun hx4 => ?_)
  · refine am_iload_n dX2_faultOf_158 rfl rfl ?_
    refine am_if_ne (tgt := 167) dX2_faultOf_159 rfl ?_ ?_
    · refine am_bipush dX2_faultOf_162 bp_m6 ?_
      refine am_goto (tgt := 171) dX2_faultOf_164 rfl ?_
      exact am_iret dX2_faultOf_171 rfl rfl
    · refine am_aload_n dX2_faultOf_167 rfl rfl ?_
      refine am_get lf_X2_85 rfl rfl dX2_faultOf_168 ?_
      exact am_iret dX2_faultOf_171 rfl rfl
  refine am_loop (σ := (Int32 × Int32)) (ls' := fun s1 => [some (am_r 1 0), some (am_i s1.1), some (am_i s1.2), none, none]) (st' := fun _ => []) (M' := fun s1 => M) (fun rec2 hr3 s1 => ?_) _ _
  unfold fX2_faultOf_L4
  refine am_iload_n dX2_faultOf_4 rfl rfl ?_
  refine am_aload_n dX2_faultOf_5 rfl rfl ?_
  refine am_get lf_X2_85 rfl rfl dX2_faultOf_6 ?_
  refine am_icmp_geB (tgt := 158) dX2_faultOf_9 rfl ?_ ?_
  · exact am_dr (hx4 (s1.1, s1.2)) (And.intro rfl (And.intro rfl trivial))
  · refine am_aload_n dX2_faultOf_12 rfl rfl ?_
    refine am_getA lf_X2_34 rfl rfl dX2_faultOf_13 ?_
    refine am_iload_n dX2_faultOf_16 rfl rfl ?_
    refine am_as ?_
    refine am_iald (β := Unit) rfl dX2_faultOf_17 (fun v6 => ?_)
    refine am_istore_n [some (am_r 1 0), some (am_i s1.1), some (am_i s1.2), some (am_i v6), none] dX2_faultOf_18 rfl rfl (Nat.le_of_ble_eq_true rfl) rfl ?_
    refine am_iload_n dX2_faultOf_19 rfl rfl ?_
    refine am_as ?_
    refine am_join (β := Int32) 98 (fun x7 => [some (am_r 1 0), some (am_i s1.1), some (am_i s1.2), some (am_i v6), none]) (fun x7 => [am_i x7]) (fun x7 => M) (fun x7 => ?_) (fun hm8 => ?_)
    · refine am_istore [some (am_r 1 0), some (am_i s1.1), some (am_i s1.2), some (am_i v6), some (am_i x7)] dX2_faultOf_98 rfl (Nat.le_of_ble_eq_true rfl) rfl ?_
      refine am_iload dX2_faultOf_100 rfl ?_
      refine am_if_neB (tgt := 107) dX2_faultOf_102 rfl ?_ ?_
      · refine am_iload_n dX2_faultOf_105 rfl rfl ?_
        show am_R _ _ _ _ _ _ _ _ (some s1.2)
        exact am_iret dX2_faultOf_106 rfl rfl
      · refine am_iload_n dX2_faultOf_107 rfl rfl ?_
        refine am_as ?_
        refine am_join (β := Int32) 151 (fun x9 => [some (am_r 1 0), some (am_i s1.1), some (am_i s1.2), some (am_i v6), some (am_i x7)]) (fun x9 => [am_i x9]) (fun x9 => M) (fun x9 => ?_) (fun hm10 => ?_)
        · refine am_istore_n [some (am_r 1 0), some (am_i x9), some (am_i s1.2), some (am_i v6), some (am_i x7)] dX2_faultOf_151 rfl rfl (Nat.le_of_ble_eq_true rfl) rfl ?_
          refine am_iinc [some (am_r 1 0), some (am_i x9), some (am_i (s1.2 + 1)), some (am_i v6), some (am_i x7)] dX2_faultOf_152 rfl ic_1 rfl (Nat.le_of_ble_eq_true rfl) rfl ?_
          refine am_goto (tgt := 4) dX2_faultOf_155 rfl ?_
          exact am_dr (hr3 (x9, (s1.2 + 1))) (And.intro rfl (And.intro rfl (And.intro rfl trivial)))
        refine am_if_neB (tgt := 135) dX2_faultOf_108 rfl ?_ ?_
        · refine am_iload_n dX2_faultOf_111 rfl rfl ?_
          refine am_bipush dX2_faultOf_112 bp_46 ?_
          refine am_icmp_neB (tgt := 121) dX2_faultOf_114 rfl ?_ ?_
          · refine am_iconst dX2_faultOf_117 ic_0 ?_
            refine am_goto (tgt := 151) dX2_faultOf_118 rfl ?_
            exact hm10 (0 : Int32)
          · refine am_iload_n dX2_faultOf_121 rfl rfl ?_
            refine am_bipush dX2_faultOf_122 bp_42 ?_
            refine am_icmp_neB (tgt := 131) dX2_faultOf_124 rfl ?_ ?_
            · refine am_iconst dX2_faultOf_127 ic_2 ?_
              refine am_goto (tgt := 151) dX2_faultOf_128 rfl ?_
              exact hm10 (2 : Int32)
            · refine am_iconst dX2_faultOf_131 ic_1 ?_
              refine am_goto (tgt := 151) dX2_faultOf_132 rfl ?_
              exact hm10 (1 : Int32)
        · refine am_iload_n dX2_faultOf_135 rfl rfl ?_
          refine am_iconst dX2_faultOf_136 ic_1 ?_
          refine am_icmp_neB (tgt := 150) dX2_faultOf_137 rfl ?_ ?_
          · refine am_iload_n dX2_faultOf_140 rfl rfl ?_
            refine am_bipush dX2_faultOf_141 bp_62 ?_
            refine am_icmp_neB (tgt := 150) dX2_faultOf_143 rfl ?_ ?_
            · refine am_iconst dX2_faultOf_146 ic_2 ?_
              refine am_goto (tgt := 151) dX2_faultOf_147 rfl ?_
              exact hm10 (2 : Int32)
            · refine am_iconst dX2_faultOf_150 ic_0 ?_
              exact hm10 (0 : Int32)
          · refine am_iconst dX2_faultOf_150 ic_0 ?_
            exact hm10 (0 : Int32)
    refine am_if_neB (tgt := 54) dX2_faultOf_20 rfl ?_ ?_
    · refine am_iload_n dX2_faultOf_23 rfl rfl ?_
      refine am_bipush dX2_faultOf_24 bp_65 ?_
      refine am_bipush dX2_faultOf_26 bp_72 ?_
      refine am_cST lc_X2_59 (kX2_in G M v6 (65 : Int32) (72 : Int32)) rfl rfl rfl rfl rfl dX2_faultOf_28 ?_
      refine am_if_neB (tgt := 46) dX2_faultOf_31 rfl ?_ ?_
      · refine am_iload_n dX2_faultOf_34 rfl rfl ?_
        refine am_bipush dX2_faultOf_35 bp_42 ?_
        refine am_icmp_eqB (tgt := 46) dX2_faultOf_37 rfl ?_ ?_
        · refine am_iconst dX2_faultOf_46 ic_1 ?_
          refine am_goto (tgt := 98) dX2_faultOf_47 rfl ?_
          exact hm8 (1 : Int32)
        · refine am_iload_n dX2_faultOf_40 rfl rfl ?_
          refine am_bipush dX2_faultOf_41 bp_46 ?_
          refine am_icmp_neB (tgt := 50) dX2_faultOf_43 rfl ?_ ?_
          · refine am_iconst dX2_faultOf_46 ic_1 ?_
            refine am_goto (tgt := 98) dX2_faultOf_47 rfl ?_
            exact hm8 (1 : Int32)
          · refine am_iconst dX2_faultOf_50 ic_0 ?_
            refine am_goto (tgt := 98) dX2_faultOf_51 rfl ?_
            exact hm8 (0 : Int32)
      · refine am_iconst dX2_faultOf_46 ic_1 ?_
        refine am_goto (tgt := 98) dX2_faultOf_47 rfl ?_
        exact hm8 (1 : Int32)
    · refine am_iload_n dX2_faultOf_54 rfl rfl ?_
      refine am_iconst dX2_faultOf_55 ic_1 ?_
      refine am_icmp_neB (tgt := 90) dX2_faultOf_56 rfl ?_ ?_
      · refine am_iload_n dX2_faultOf_59 rfl rfl ?_
        refine am_bipush dX2_faultOf_60 bp_97 ?_
        refine am_bipush dX2_faultOf_62 bp_120 ?_
        refine am_cST lc_X2_59 (kX2_in G M v6 (97 : Int32) (120 : Int32)) rfl rfl rfl rfl rfl dX2_faultOf_64 ?_
        refine am_if_neB (tgt := 82) dX2_faultOf_67 rfl ?_ ?_
        · refine am_iload_n dX2_faultOf_70 rfl rfl ?_
          refine am_bipush dX2_faultOf_71 bp_45 ?_
          refine am_icmp_eqB (tgt := 82) dX2_faultOf_73 rfl ?_ ?_
          · refine am_iconst dX2_faultOf_82 ic_1 ?_
            refine am_goto (tgt := 98) dX2_faultOf_83 rfl ?_
            exact hm8 (1 : Int32)
          · refine am_iload_n dX2_faultOf_76 rfl rfl ?_
            refine am_bipush dX2_faultOf_77 bp_62 ?_
            refine am_icmp_neB (tgt := 86) dX2_faultOf_79 rfl ?_ ?_
            · refine am_iconst dX2_faultOf_82 ic_1 ?_
              refine am_goto (tgt := 98) dX2_faultOf_83 rfl ?_
              exact hm8 (1 : Int32)
            · refine am_iconst dX2_faultOf_86 ic_0 ?_
              refine am_goto (tgt := 98) dX2_faultOf_87 rfl ?_
              exact hm8 (0 : Int32)
        · refine am_iconst dX2_faultOf_82 ic_1 ?_
          refine am_goto (tgt := 98) dX2_faultOf_83 rfl ?_
          exact hm8 (1 : Int32)
      · refine am_iload_n dX2_faultOf_90 rfl rfl ?_
        refine am_bipush dX2_faultOf_91 bp_48 ?_
        refine am_bipush dX2_faultOf_93 bp_57 ?_
        refine am_cST lc_X2_59 (kX2_in G M v6 (48 : Int32) (57 : Int32)) rfl rfl rfl rfl rfl dX2_faultOf_95 ?_
        exact hm8 (fX2_in v6 (48 : Int32) (57 : Int32))
def fX2_fault (m : Nat → Nat → Int32) : Option Int32 :=
(Option.bind (fX2_faultOf m) fun v1 =>
some v1)
set_option maxHeartbeats 4000000 in
theorem kX2_fault (G : am_G) (M : am_M)  : am_C G 3 mX2_fault [am_r 1 0] M (fun r => (some (am_i r), M)) (fX2_fault (M 1)) := by
  refine am_met (nL := 1) (ls0 := [some (am_r 1 0)]) (by decide) rfl (Nat.le_of_ble_eq_true rfl) (And.intro rfl trivial) ?_
  unfold fX2_fault
  refine am_aload_n dX2_fault_0 rfl rfl ?_
  refine am_cVI (as' := []) lc_X2_88 rfl (kX2_faultOf G M) rfl rfl rfl rfl rfl rfl dX2_fault_1 (fun v1 => ?_)
  exact am_iret dX2_fault_4 rfl rfl
def fX2_asNow_L2  (rec1 : (Int32 × am_M) → Option (Int32 × am_M)) (s2 : (Int32 × am_M)) : Option (Int32 × am_M) :=
(if (36 : Int32) ≤ s2.1 then
some (s2.1, s2.2)
 else
(Option.bind (am_rd ((s2.2) 1 0) 36 s2.1) fun v3 =>
(Option.bind (am_wr s2.2 1 1 36 s2.1 v3) fun M4 =>
rec1 ((s2.1 + 1), M4))))
def fX2_asNow (M : am_M) : Option am_M :=
(Option.bind (am_it fX2_asNow_L2 am_fuel ((0 : Int32), M)) fun (s5 : (Int32 × am_M)) =>
some (am_put (am_put s5.2 1 13 (-6 : Int32)) 1 14 (-6 : Int32)))
set_option maxHeartbeats 4000000 in
theorem kX2_asNow (G : am_G) (M : am_M)  : am_C G 1 mX2_asNow [am_r 1 0] M (fun r => (none, r)) (fX2_asNow M) := by
  refine am_met (nL := 2) (ls0 := [some (am_r 1 0), none]) (by decide) rfl (Nat.le_of_ble_eq_true rfl) (And.intro rfl trivial) ?_
  unfold fX2_asNow
  refine am_iconst dX2_asNow_0 ic_0 ?_
  refine am_istore_n [some (am_r 1 0), some (am_i (0 : Int32))] dX2_asNow_1 rfl rfl (Nat.le_of_ble_eq_true rfl) rfl ?_
  refine am_join (β := (Int32 × am_M)) 26 (fun s5 => [some (am_r 1 0), none]) (fun _ => []) (fun s5 => s5.2) (fun s5 => ?_) (fun hx4 => ?_)
  · refine am_aload_n dX2_asNow_26 rfl rfl ?_
    refine am_bipush dX2_asNow_27 bp_m6 ?_
    refine am_putf lf_X2_104 rfl rfl dX2_asNow_29 ?_
    refine am_aload_n dX2_asNow_32 rfl rfl ?_
    refine am_bipush dX2_asNow_33 bp_m6 ?_
    refine am_putf lf_X2_107 rfl rfl dX2_asNow_35 ?_
    exact am_vret dX2_asNow_38 rfl rfl
  refine am_loop (σ := (Int32 × am_M)) (ls' := fun s1 => [some (am_r 1 0), some (am_i s1.1)]) (st' := fun _ => []) (M' := fun s1 => s1.2) (fun rec2 hr3 s1 => ?_) _ _
  unfold fX2_asNow_L2
  refine am_iload_n dX2_asNow_2 rfl rfl ?_
  refine am_bipush dX2_asNow_3 bp_36 ?_
  refine am_icmp_geB (tgt := 26) dX2_asNow_5 rfl ?_ ?_
  · exact am_dr (hx4 (s1.1, s1.2)) (And.intro rfl trivial)
  · refine am_aload_n dX2_asNow_8 rfl rfl ?_
    refine am_getA lf_X2_13 rfl rfl dX2_asNow_9 ?_
    refine am_iload_n dX2_asNow_12 rfl rfl ?_
    refine am_aload_n dX2_asNow_13 rfl rfl ?_
    refine am_getA lf_X2_7 rfl rfl dX2_asNow_14 ?_
    refine am_iload_n dX2_asNow_17 rfl rfl ?_
    refine am_as ?_
    refine am_iald (β := Unit) rfl dX2_asNow_18 (fun v6 => ?_)
    refine am_as ?_
    refine am_iast rfl dX2_asNow_19 (fun M7 => ?_)
    refine am_iinc [some (am_r 1 0), some (am_i (s1.1 + 1))] dX2_asNow_20 rfl ic_1 rfl (Nat.le_of_ble_eq_true rfl) rfl ?_
    refine am_goto (tgt := 2) dX2_asNow_23 rfl ?_
    exact hr3 ((s1.1 + 1), M7)
def fX2_sings (m : Nat → Nat → Int32) (a1 : Int32) (a2 : Int32) : Option Int32 :=
(if (fX2_isThere m a1) = 0 then
some (0 : Int32)
 else
(Option.bind (am_rd (m 1) 36 ((16 : Int32) + a1)) fun v1 =>
(if v1 = a2 then
(Option.bind (am_rd (m 1) 36 a1) fun v2 =>
(if v2 < 0 then
some (0 : Int32)
 else
some (1 : Int32)))
 else
some (0 : Int32))))
set_option maxHeartbeats 4000000 in
theorem kX2_sings (G : am_G) (M : am_M) (a1 : Int32) (a2 : Int32) : am_C G 3 mX2_sings [am_r 1 0, am_i a1, am_i a2] M (fun r => (some (am_i r), M)) (fX2_sings (M 1) a1 a2) := by
  refine am_met (nL := 3) (ls0 := [some (am_r 1 0), some (am_i a1), some (am_i a2)]) (by decide) rfl (Nat.le_of_ble_eq_true rfl) (And.intro rfl (And.intro rfl (And.intro rfl trivial))) ?_
  unfold fX2_sings
  refine am_aload_n dX2_sings_0 rfl rfl ?_
  refine am_iload_n dX2_sings_1 rfl rfl ?_
  refine am_cVT (as' := [am_i a1]) lc_X2_82 rfl (kX2_isThere G M a1) rfl rfl rfl rfl rfl rfl dX2_sings_2 ?_
  refine am_if_eq (tgt := 34) dX2_sings_5 rfl ?_ ?_
  · refine am_iconst dX2_sings_34 ic_0 ?_
    exact am_zret (by decide) dX2_sings_35 rfl rfl
  · refine am_aload_n dX2_sings_8 rfl rfl ?_
    refine am_getA lf_X2_13 rfl rfl dX2_sings_9 ?_
    refine am_bipush dX2_sings_12 bp_16 ?_
    refine am_iload_n dX2_sings_14 rfl rfl ?_
    refine am_iadd dX2_sings_15 ?_
    refine am_iald (β := Unit) rfl dX2_sings_16 (fun v1 => ?_)
    refine am_iload_n dX2_sings_17 rfl rfl ?_
    refine am_icmp_ne (tgt := 34) dX2_sings_18 rfl ?_ ?_
    · refine am_aload_n dX2_sings_21 rfl rfl ?_
      refine am_getA lf_X2_13 rfl rfl dX2_sings_22 ?_
      refine am_iload_n dX2_sings_25 rfl rfl ?_
      refine am_iald (β := Unit) rfl dX2_sings_26 (fun v2 => ?_)
      refine am_if_lt (tgt := 34) dX2_sings_27 rfl ?_ ?_
      · refine am_iconst dX2_sings_34 ic_0 ?_
        exact am_zret (by decide) dX2_sings_35 rfl rfl
      · refine am_iconst dX2_sings_30 ic_1 ?_
        refine am_goto (tgt := 35) dX2_sings_31 rfl ?_
        exact am_zret (by decide) dX2_sings_35 rfl rfl
    · refine am_iconst dX2_sings_34 ic_0 ?_
      exact am_zret (by decide) dX2_sings_35 rfl rfl
def fX2_areHushed (m : Nat → Nat → Int32) (a1 : Int32) (a2 : Int32) : Option Int32 :=
(Option.bind (am_rd (m 1) 36 a1) fun v1 =>
(Option.bind (am_rd (m 1) 36 a2) fun v2 =>
(Option.bind (if 0 ≤ (v1 - v2) then
some (v1 - v2)
 else
some (-(v1 - v2))) fun (x3 : Int32) =>
(if x3 = (3 : Int32) then
some (1 : Int32)
 else
(if x3 = (4 : Int32) then
some (1 : Int32)
 else
some (0 : Int32))))))
set_option maxHeartbeats 4000000 in
theorem kX2_areHushed (G : am_G) (M : am_M) (a1 : Int32) (a2 : Int32) : am_C G 1 mX2_areHushed [am_r 1 0, am_i a1, am_i a2] M (fun r => (some (am_i r), M)) (fX2_areHushed (M 1) a1 a2) := by
  refine am_met (nL := 4) (ls0 := [some (am_r 1 0), some (am_i a1), some (am_i a2), none]) (by decide) rfl (Nat.le_of_ble_eq_true rfl) (And.intro rfl (And.intro rfl (And.intro rfl trivial))) ?_
  unfold fX2_areHushed
  refine am_aload_n dX2_areHushed_0 rfl rfl ?_
  refine am_getA lf_X2_13 rfl rfl dX2_areHushed_1 ?_
  refine am_iload_n dX2_areHushed_4 rfl rfl ?_
  refine am_iald (β := Unit) rfl dX2_areHushed_5 (fun v1 => ?_)
  refine am_aload_n dX2_areHushed_6 rfl rfl ?_
  refine am_getA lf_X2_13 rfl rfl dX2_areHushed_7 ?_
  refine am_iload_n dX2_areHushed_10 rfl rfl ?_
  refine am_iald (β := Unit) rfl dX2_areHushed_11 (fun v2 => ?_)
  refine am_isub dX2_areHushed_12 ?_
  refine am_istore_n [some (am_r 1 0), some (am_i a1), some (am_i a2), some (am_i (v1 - v2))] dX2_areHushed_13 rfl rfl (Nat.le_of_ble_eq_true rfl) rfl ?_
  refine am_iload_n dX2_areHushed_14 rfl rfl ?_
  refine am_join (β := Int32) 24 (fun x3 => [some (am_r 1 0), some (am_i a1), some (am_i a2), some (am_i (v1 - v2))]) (fun x3 => [am_i x3]) (fun x3 => M) (fun x3 => ?_) (fun hm4 => ?_)
  · refine am_istore_n [some (am_r 1 0), some (am_i a1), some (am_i a2), some (am_i x3)] dX2_areHushed_24 rfl rfl (Nat.le_of_ble_eq_true rfl) rfl ?_
    refine am_iload_n dX2_areHushed_25 rfl rfl ?_
    refine am_iconst dX2_areHushed_26 ic_3 ?_
    refine am_icmp_eq (tgt := 35) dX2_areHushed_27 rfl ?_ ?_
    · refine am_iconst dX2_areHushed_35 ic_1 ?_
      refine am_goto (tgt := 40) dX2_areHushed_36 rfl ?_
      exact am_zret (by decide) dX2_areHushed_40 rfl rfl
    · refine am_iload_n dX2_areHushed_30 rfl rfl ?_
      refine am_iconst dX2_areHushed_31 ic_4 ?_
      refine am_icmp_ne (tgt := 39) dX2_areHushed_32 rfl ?_ ?_
      · refine am_iconst dX2_areHushed_35 ic_1 ?_
        refine am_goto (tgt := 40) dX2_areHushed_36 rfl ?_
        exact am_zret (by decide) dX2_areHushed_40 rfl rfl
      · refine am_iconst dX2_areHushed_39 ic_0 ?_
        exact am_zret (by decide) dX2_areHushed_40 rfl rfl
  refine am_if_geB (tgt := 23) dX2_areHushed_15 rfl ?_ ?_
  · refine am_iload_n dX2_areHushed_23 rfl rfl ?_
    exact hm4 (v1 - v2)
  · refine am_iload_n dX2_areHushed_18 rfl rfl ?_
    refine am_ineg dX2_areHushed_19 ?_
    refine am_goto (tgt := 24) dX2_areHushed_20 rfl ?_
    exact hm4 (-(v1 - v2))
def fX2_ownLight_L21 (m : Nat → Nat → Int32) (a1 : Int32) (s1 : (Int32 × Int32)) (rec2 : (Int32 × Int32) → Option (Int32 × Int32)) (s3 : (Int32 × Int32)) : Option (Int32 × Int32) :=
(if (8 : Int32) ≤ s3.2 then
some (s3.1, s3.2)
 else
(if s3.1 = 0 then
some (s3.1, s3.2)
 else
(Option.bind (if (fX2_has (m 8 0) a1) = 0 then
some (1 : Int32)
 else
(if s3.2 = s1.2 then
some (1 : Int32)
 else
(Option.bind (fX2_sings m s3.2 a1) fun v4 =>
(if v4 = 0 then
some (1 : Int32)
 else
(Option.bind (fX2_areHushed m s1.2 s3.2) fun v5 =>
(if v5 = 0 then
some (1 : Int32)
 else
some (0 : Int32))))))) fun (x6 : Int32) =>
rec2 (x6, (s3.2 + 1)))))
def fX2_ownLight_L4 (m : Nat → Nat → Int32) (a1 : Int32) (rec1 : (Int32 × Int32) → Option (Int32 × Int32)) (s2 : (Int32 × Int32)) : Option (Int32 × Int32) :=
(if (8 : Int32) ≤ s2.2 then
some (s2.1, s2.2)
 else
(Option.bind (fX2_sings m s2.2 a1) fun v3 =>
(Option.bind (am_it (fX2_ownLight_L21 m a1 s2) am_fuel (v3, (0 : Int32))) fun (s4 : (Int32 × Int32)) =>
(Option.bind (if s4.1 = 0 then
some s2.1
 else
(Option.bind (am_rd (m 1) 36 s2.2) fun v5 =>
(if (v5 + (1 : Int32)) ≤ s2.1 then
some s2.1
 else
(Option.bind (am_rd (m 1) 36 s2.2) fun v6 =>
some (v6 + (1 : Int32)))))) fun (x7 : Int32) =>
rec1 (x7, (s2.2 + 1))))))
def fX2_ownLight (m : Nat → Nat → Int32) (a1 : Int32) : Option Int32 :=
(Option.bind (am_it (fX2_ownLight_L4 m a1) am_fuel ((0 : Int32), (0 : Int32))) fun (s5 : (Int32 × Int32)) =>
some s5.1)
set_option maxHeartbeats 4000000 in
theorem kX2_ownLight (G : am_G) (M : am_M) (a1 : Int32) : am_C G 4 mX2_ownLight [am_r 1 0, am_i a1] M (fun r => (some (am_i r), M)) (fX2_ownLight (M 1) a1) := by
  refine am_met (nL := 6) (ls0 := [some (am_r 1 0), some (am_i a1), none, none, none, none]) (by decide) rfl (Nat.le_of_ble_eq_true rfl) (And.intro rfl (And.intro rfl trivial)) ?_
  unfold fX2_ownLight
  refine am_iconst dX2_ownLight_0 ic_0 ?_
  refine am_istore_n [some (am_r 1 0), some (am_i a1), some (am_i (0 : Int32)), none, none, none] dX2_ownLight_1 rfl rfl (Nat.le_of_ble_eq_true rfl) rfl ?_
  refine am_iconst dX2_ownLight_2 ic_0 ?_
  refine am_istore_n [some (am_r 1 0), some (am_i a1), some (am_i (0 : Int32)), some (am_i (0 : Int32)), none, none] dX2_ownLight_3 rfl rfl (Nat.le_of_ble_eq_true rfl) rfl ?_
  refine am_join (β := (Int32 × Int32)) 119 (fun s5 => [none, none, some (am_i s5.1), none, none, none]) (fun _ => []) (fun s5 => M) (fun s5 => ?_) (fun hx4 => ?_)
  · refine am_iload_n dX2_ownLight_119 rfl rfl ?_
    exact am_iret dX2_ownLight_120 rfl rfl
  refine am_loop (σ := (Int32 × Int32)) (ls' := fun s1 => [some (am_r 1 0), some (am_i a1), some (am_i s1.1), some (am_i s1.2), none, none]) (st' := fun _ => []) (M' := fun s1 => M) (fun rec2 hr3 s1 => ?_) _ _
  unfold fX2_ownLight_L4
  refine am_iload_n dX2_ownLight_4 rfl rfl ?_
  refine am_bipush dX2_ownLight_5 bp_8 ?_
  refine am_icmp_geB (tgt := 119) dX2_ownLight_7 rfl ?_ ?_
  · exact am_dr (hx4 (s1.1, s1.2)) (And.intro rfl trivial)
  · refine am_aload_n dX2_ownLight_10 rfl rfl ?_
    refine am_iload_n dX2_ownLight_11 rfl rfl ?_
    refine am_iload_n dX2_ownLight_12 rfl rfl ?_
    refine am_as ?_
    refine am_cVI (as' := [am_i s1.2, am_i a1]) lc_X2_92 rfl (kX2_sings G M s1.2 a1) rfl rfl rfl rfl rfl rfl dX2_ownLight_13 (fun v6 => ?_)
    refine am_istore [some (am_r 1 0), some (am_i a1), some (am_i s1.1), some (am_i s1.2), some (am_i v6), none] dX2_ownLight_16 rfl (Nat.le_of_ble_eq_true rfl) rfl ?_
    refine am_iconst dX2_ownLight_18 ic_0 ?_
    refine am_istore [some (am_r 1 0), some (am_i a1), some (am_i s1.1), some (am_i s1.2), some (am_i v6), some (am_i (0 : Int32))] dX2_ownLight_19 rfl (Nat.le_of_ble_eq_true rfl) rfl ?_
    refine am_as ?_
    refine am_join (β := (Int32 × Int32)) 83 (fun s11 => [some (am_r 1 0), some (am_i a1), some (am_i s1.1), some (am_i s1.2), some (am_i s11.1), none]) (fun _ => []) (fun s11 => M) (fun s11 => ?_) (fun hx10 => ?_)
    · refine am_iload dX2_ownLight_83 rfl ?_
      refine am_as ?_
      refine am_join (β := Int32) 112 (fun x16 => [some (am_r 1 0), some (am_i a1), some (am_i s1.1), some (am_i s1.2), some (am_i s11.1), none]) (fun x16 => [am_i x16]) (fun x16 => M) (fun x16 => ?_) (fun hm17 => ?_)
      · refine am_istore_n [some (am_r 1 0), some (am_i a1), some (am_i x16), some (am_i s1.2), some (am_i s11.1), none] dX2_ownLight_112 rfl rfl (Nat.le_of_ble_eq_true rfl) rfl ?_
        refine am_iinc [some (am_r 1 0), some (am_i a1), some (am_i x16), some (am_i (s1.2 + 1)), some (am_i s11.1), none] dX2_ownLight_113 rfl ic_1 rfl (Nat.le_of_ble_eq_true rfl) rfl ?_
        refine am_goto (tgt := 4) dX2_ownLight_116 rfl ?_
        exact am_dr (hr3 (x16, (s1.2 + 1))) (And.intro rfl (And.intro rfl (And.intro rfl (And.intro rfl trivial))))
      refine am_if_eqB (tgt := 111) dX2_ownLight_85 rfl ?_ ?_
      · refine am_iload_n dX2_ownLight_111 rfl rfl ?_
        exact hm17 s1.1
      · refine am_aload_n dX2_ownLight_88 rfl rfl ?_
        refine am_getA lf_X2_13 rfl rfl dX2_ownLight_89 ?_
        refine am_iload_n dX2_ownLight_92 rfl rfl ?_
        refine am_as ?_
        refine am_iald (β := Unit) rfl dX2_ownLight_93 (fun v18 => ?_)
        refine am_iconst dX2_ownLight_94 ic_1 ?_
        refine am_iadd dX2_ownLight_95 ?_
        refine am_iload_n dX2_ownLight_96 rfl rfl ?_
        refine am_icmp_leB (tgt := 111) dX2_ownLight_97 rfl ?_ ?_
        · refine am_iload_n dX2_ownLight_111 rfl rfl ?_
          exact hm17 s1.1
        · refine am_aload_n dX2_ownLight_100 rfl rfl ?_
          refine am_getA lf_X2_13 rfl rfl dX2_ownLight_101 ?_
          refine am_iload_n dX2_ownLight_104 rfl rfl ?_
          refine am_as ?_
          refine am_iald (β := Unit) rfl dX2_ownLight_105 (fun v19 => ?_)
          refine am_iconst dX2_ownLight_106 ic_1 ?_
          refine am_iadd dX2_ownLight_107 ?_
          refine am_goto (tgt := 112) dX2_ownLight_108 rfl ?_
          exact hm17 (v19 + (1 : Int32))
    refine am_loop (σ := (Int32 × Int32)) (ls' := fun s7 => [some (am_r 1 0), some (am_i a1), some (am_i s1.1), some (am_i s1.2), some (am_i s7.1), some (am_i s7.2)]) (st' := fun _ => []) (M' := fun s7 => M) (fun rec8 hr9 s7 => ?_) _ _
    unfold fX2_ownLight_L21
    refine am_iload dX2_ownLight_21 rfl ?_
    refine am_bipush dX2_ownLight_23 bp_8 ?_
    refine am_icmp_geB (tgt := 83) dX2_ownLight_25 rfl ?_ ?_
    · exact am_dr (hx10 (s7.1, s7.2)) (And.intro rfl (And.intro rfl (And.intro rfl (And.intro rfl (And.intro rfl trivial)))))
    · refine am_iload dX2_ownLight_28 rfl ?_
      refine am_if_eqB (tgt := 83) dX2_ownLight_30 rfl ?_ ?_
      · exact am_dr (hx10 (s7.1, s7.2)) (And.intro rfl (And.intro rfl (And.intro rfl (And.intro rfl (And.intro rfl trivial)))))
      · refine am_aload_n dX2_ownLight_33 rfl rfl ?_
        refine am_get lf_X2_79 rfl rfl dX2_ownLight_34 ?_
        refine am_iload_n dX2_ownLight_37 rfl rfl ?_
        refine am_cST lc_X2_67 (kX2_has G M ((M 1) 8 0) a1) rfl rfl rfl rfl rfl dX2_ownLight_38 ?_
        refine am_as ?_
        refine am_join (β := Int32) 75 (fun x12 => [some (am_r 1 0), some (am_i a1), some (am_i s1.1), some (am_i s1.2), some (am_i s7.1), some (am_i s7.2)]) (fun x12 => [am_i x12]) (fun x12 => M) (fun x12 => ?_) (fun hm13 => ?_)
        · refine am_istore [some (am_r 1 0), some (am_i a1), some (am_i s1.1), some (am_i s1.2), some (am_i x12), some (am_i s7.2)] dX2_ownLight_75 rfl (Nat.le_of_ble_eq_true rfl) rfl ?_
          refine am_iinc [some (am_r 1 0), some (am_i a1), some (am_i s1.1), some (am_i s1.2), some (am_i x12), some (am_i (s7.2 + 1))] dX2_ownLight_77 rfl ic_1 rfl (Nat.le_of_ble_eq_true rfl) rfl ?_
          refine am_goto (tgt := 21) dX2_ownLight_80 rfl ?_
          exact hr9 (x12, (s7.2 + 1))
        refine am_if_eqB (tgt := 70) dX2_ownLight_41 rfl ?_ ?_
        · refine am_iconst dX2_ownLight_70 ic_1 ?_
          refine am_goto (tgt := 75) dX2_ownLight_71 rfl ?_
          exact hm13 (1 : Int32)
        · refine am_iload dX2_ownLight_44 rfl ?_
          refine am_iload_n dX2_ownLight_46 rfl rfl ?_
          refine am_icmp_eqB (tgt := 70) dX2_ownLight_47 rfl ?_ ?_
          · refine am_iconst dX2_ownLight_70 ic_1 ?_
            refine am_goto (tgt := 75) dX2_ownLight_71 rfl ?_
            exact hm13 (1 : Int32)
          · refine am_aload_n dX2_ownLight_50 rfl rfl ?_
            refine am_iload dX2_ownLight_51 rfl ?_
            refine am_iload_n dX2_ownLight_53 rfl rfl ?_
            refine am_as ?_
            refine am_cVI (as' := [am_i s7.2, am_i a1]) lc_X2_92 rfl (kX2_sings G M s7.2 a1) rfl rfl rfl rfl rfl rfl dX2_ownLight_54 (fun v14 => ?_)
            refine am_if_eqB (tgt := 70) dX2_ownLight_57 rfl ?_ ?_
            · refine am_iconst dX2_ownLight_70 ic_1 ?_
              refine am_goto (tgt := 75) dX2_ownLight_71 rfl ?_
              exact hm13 (1 : Int32)
            · refine am_aload_n dX2_ownLight_60 rfl rfl ?_
              refine am_iload_n dX2_ownLight_61 rfl rfl ?_
              refine am_iload dX2_ownLight_62 rfl ?_
              refine am_as ?_
              refine am_cVI (as' := [am_i s1.2, am_i s7.2]) lc_X2_95 rfl (kX2_areHushed G M s1.2 s7.2) rfl rfl rfl rfl rfl rfl dX2_ownLight_64 (fun v15 => ?_)
              refine am_if_neB (tgt := 74) dX2_ownLight_67 rfl ?_ ?_
              · refine am_iconst dX2_ownLight_70 ic_1 ?_
                refine am_goto (tgt := 75) dX2_ownLight_71 rfl ?_
                exact hm13 (1 : Int32)
              · refine am_iconst dX2_ownLight_74 ic_0 ?_
                exact hm13 (0 : Int32)
def fX2_lightOf_L8 (m : Nat → Nat → Int32) (a1 : Int32) (rec1 : (Int32 × Int32) → Option (Int32 × Int32)) (s2 : (Int32 × Int32)) : Option (Int32 × Int32) :=
(if (10 : Int32) ≤ s2.2 then
some (s2.1, s2.2)
 else
(Option.bind (if s2.2 = a1 then
some s2.1
 else
(Option.bind (am_rd (m 7) 10 s2.2) fun v3 =>
(if v3 = a1 then
(Option.bind (fX2_ownLight m s2.2) fun v4 =>
(Option.bind (if (v4 / (2 : Int32)) ≤ s2.1 then
some s2.1
 else
some (v4 / (2 : Int32))) fun (x5 : Int32) =>
some x5))
 else
some s2.1))) fun (x6 : Int32) =>
rec1 (x6, (s2.2 + 1))))
def fX2_lightOf (m : Nat → Nat → Int32) (a1 : Int32) : Option Int32 :=
(Option.bind (fX2_ownLight m a1) fun v1 =>
(Option.bind (am_it (fX2_lightOf_L8 m a1) am_fuel (v1, (0 : Int32))) fun (s6 : (Int32 × Int32)) =>
some s6.1))
set_option maxHeartbeats 4000000 in
theorem kX2_lightOf (G : am_G) (M : am_M) (a1 : Int32) : am_C G 5 mX2_lightOf [am_r 1 0, am_i a1] M (fun r => (some (am_i r), M)) (fX2_lightOf (M 1) a1) := by
  refine am_met (nL := 5) (ls0 := [some (am_r 1 0), some (am_i a1), none, none, none]) (by decide) rfl (Nat.le_of_ble_eq_true rfl) (And.intro rfl (And.intro rfl trivial)) ?_
  unfold fX2_lightOf
  refine am_aload_n dX2_lightOf_0 rfl rfl ?_
  refine am_iload_n dX2_lightOf_1 rfl rfl ?_
  refine am_cVI (as' := [am_i a1]) lc_X2_98 rfl (kX2_ownLight G M a1) rfl rfl rfl rfl rfl rfl dX2_lightOf_2 (fun v1 => ?_)
  refine am_istore_n [some (am_r 1 0), some (am_i a1), some (am_i v1), none, none] dX2_lightOf_5 rfl rfl (Nat.le_of_ble_eq_true rfl) rfl ?_
  refine am_iconst dX2_lightOf_6 ic_0 ?_
  refine am_istore_n [some (am_r 1 0), some (am_i a1), some (am_i v1), some (am_i (0 : Int32)), none] dX2_lightOf_7 rfl rfl (Nat.le_of_ble_eq_true rfl) rfl ?_
  refine am_join (β := (Int32 × Int32)) 57 (fun s6 => [none, none, some (am_i s6.1), none, none]) (fun _ => []) (fun s6 => M) (fun s6 => ?_) (fun hx5 => ?_)
  · refine am_iload_n dX2_lightOf_57 rfl rfl ?_
    exact am_iret dX2_lightOf_58 rfl rfl
  refine am_loop (σ := (Int32 × Int32)) (ls' := fun s2 => [some (am_r 1 0), some (am_i a1), some (am_i s2.1), some (am_i s2.2), none]) (st' := fun _ => []) (M' := fun s2 => M) (fun rec3 hr4 s2 => ?_) _ _
  unfold fX2_lightOf_L8
  refine am_iload_n dX2_lightOf_8 rfl rfl ?_
  refine am_bipush dX2_lightOf_9 bp_10 ?_
  refine am_icmp_geB (tgt := 57) dX2_lightOf_11 rfl ?_ ?_
  · exact am_dr (hx5 (s2.1, s2.2)) (And.intro rfl trivial)
  · refine am_iload_n dX2_lightOf_14 rfl rfl ?_
    refine am_iload_n dX2_lightOf_15 rfl rfl ?_
    refine am_as ?_
    refine am_join (β := Int32) 51 (fun x7 => [some (am_r 1 0), some (am_i a1), some (am_i x7), some (am_i s2.2), none]) (fun x7 => []) (fun x7 => M) (fun x7 => ?_) (fun hm8 => ?_)
    · refine am_iinc [some (am_r 1 0), some (am_i a1), some (am_i x7), some (am_i (s2.2 + 1)), none] dX2_lightOf_51 rfl ic_1 rfl (Nat.le_of_ble_eq_true rfl) rfl ?_
      refine am_goto (tgt := 8) dX2_lightOf_54 rfl ?_
      exact hr4 (x7, (s2.2 + 1))
    refine am_icmp_eqB (tgt := 51) dX2_lightOf_16 rfl ?_ ?_
    · exact hm8 s2.1
    · refine am_aload_n dX2_lightOf_19 rfl rfl ?_
      refine am_getA lf_X2_28 rfl rfl dX2_lightOf_20 ?_
      refine am_iload_n dX2_lightOf_23 rfl rfl ?_
      refine am_as ?_
      refine am_iald (β := Unit) rfl dX2_lightOf_24 (fun v9 => ?_)
      refine am_iload_n dX2_lightOf_25 rfl rfl ?_
      refine am_icmp_neB (tgt := 51) dX2_lightOf_26 rfl ?_ ?_
      · refine am_aload_n dX2_lightOf_29 rfl rfl ?_
        refine am_iload_n dX2_lightOf_30 rfl rfl ?_
        refine am_as ?_
        refine am_cVI (as' := [am_i s2.2]) lc_X2_98 rfl (kX2_ownLight G M s2.2) rfl rfl rfl rfl rfl rfl dX2_lightOf_31 (fun v10 => ?_)
        refine am_iconst dX2_lightOf_34 ic_2 ?_
        refine am_idiv dX2_lightOf_35 (by decide) ?_
        refine am_istore [some (am_r 1 0), some (am_i a1), some (am_i s2.1), some (am_i s2.2), some (am_i (v10 / (2 : Int32)))] dX2_lightOf_36 rfl (Nat.le_of_ble_eq_true rfl) rfl ?_
        refine am_iload dX2_lightOf_38 rfl ?_
        refine am_iload_n dX2_lightOf_40 rfl rfl ?_
        refine am_as ?_
        refine am_join (β := Int32) 50 (fun x11 => [some (am_r 1 0), some (am_i a1), some (am_i s2.1), some (am_i s2.2), some (am_i (v10 / (2 : Int32)))]) (fun x11 => [am_i x11]) (fun x11 => M) (fun x11 => ?_) (fun hm12 => ?_)
        · refine am_istore_n [some (am_r 1 0), some (am_i a1), some (am_i x11), some (am_i s2.2), some (am_i (v10 / (2 : Int32)))] dX2_lightOf_50 rfl rfl (Nat.le_of_ble_eq_true rfl) rfl ?_
          exact am_dr (hm8 x11) (And.intro rfl (And.intro rfl (And.intro rfl (And.intro rfl trivial))))
        refine am_icmp_leB (tgt := 49) dX2_lightOf_41 rfl ?_ ?_
        · refine am_iload_n dX2_lightOf_49 rfl rfl ?_
          exact hm12 s2.1
        · refine am_iload dX2_lightOf_44 rfl ?_
          refine am_goto (tgt := 50) dX2_lightOf_46 rfl ?_
          exact hm12 (v10 / (2 : Int32))
      · exact hm8 s2.1
def fX2_lamps_L4 (m : Nat → Nat → Int32) (rec1 : (Int32 × Int32) → Option (Int32 × Int32)) (s2 : (Int32 × Int32)) : Option (Int32 × Int32) :=
(if (10 : Int32) ≤ s2.2 then
some (s2.1, s2.2)
 else
(Option.bind (fX2_lightOf m s2.2) fun v3 =>
(Option.bind (if v3 ≤ 0 then
some (0 : Int32)
 else
some ((1 : Int32) <<< (s2.2 &&& 31))) fun (x4 : Int32) =>
rec1 ((s2.1 ||| x4), (s2.2 + 1)))))
def fX2_lamps (m : Nat → Nat → Int32) : Option Int32 :=
(Option.bind (am_it (fX2_lamps_L4 m) am_fuel ((0 : Int32), (0 : Int32))) fun (s5 : (Int32 × Int32)) =>
some s5.1)
set_option maxHeartbeats 4000000 in
theorem kX2_lamps (G : am_G) (M : am_M)  : am_C G 6 mX2_lamps [am_r 1 0] M (fun r => (some (am_i r), M)) (fX2_lamps (M 1)) := by
  refine am_met (nL := 3) (ls0 := [some (am_r 1 0), none, none]) (by decide) rfl (Nat.le_of_ble_eq_true rfl) (And.intro rfl trivial) ?_
  unfold fX2_lamps
  refine am_iconst dX2_lamps_0 ic_0 ?_
  refine am_istore_n [some (am_r 1 0), some (am_i (0 : Int32)), none] dX2_lamps_1 rfl rfl (Nat.le_of_ble_eq_true rfl) rfl ?_
  refine am_iconst dX2_lamps_2 ic_0 ?_
  refine am_istore_n [some (am_r 1 0), some (am_i (0 : Int32)), some (am_i (0 : Int32))] dX2_lamps_3 rfl rfl (Nat.le_of_ble_eq_true rfl) rfl ?_
  refine am_join (β := (Int32 × Int32)) 34 (fun s5 => [none, some (am_i s5.1), none]) (fun _ => []) (fun s5 => M) (fun s5 => ?_) (fun hx4 => ?_)
  · refine am_iload_n dX2_lamps_34 rfl rfl ?_
    exact am_iret dX2_lamps_35 rfl rfl
  refine am_loop (σ := (Int32 × Int32)) (ls' := fun s1 => [some (am_r 1 0), some (am_i s1.1), some (am_i s1.2)]) (st' := fun _ => []) (M' := fun s1 => M) (fun rec2 hr3 s1 => ?_) _ _
  unfold fX2_lamps_L4
  refine am_iload_n dX2_lamps_4 rfl rfl ?_
  refine am_bipush dX2_lamps_5 bp_10 ?_
  refine am_icmp_geB (tgt := 34) dX2_lamps_7 rfl ?_ ?_
  · exact am_dr (hx4 (s1.1, s1.2)) (And.intro rfl trivial)
  · refine am_iload_n dX2_lamps_10 rfl rfl ?_
    refine am_aload_n dX2_lamps_11 rfl rfl ?_
    refine am_iload_n dX2_lamps_12 rfl rfl ?_
    refine am_as ?_
    refine am_cVI (as' := [am_i s1.2]) lc_X2_101 rfl (kX2_lightOf G M s1.2) rfl rfl rfl rfl rfl rfl dX2_lamps_13 (fun v6 => ?_)
    refine am_as ?_
    refine am_join (β := Int32) 26 (fun x7 => [some (am_r 1 0), some (am_i s1.1), some (am_i s1.2)]) (fun x7 => [am_i x7, am_i s1.1]) (fun x7 => M) (fun x7 => ?_) (fun hm8 => ?_)
    · refine am_ior dX2_lamps_26 ?_
      refine am_istore_n [some (am_r 1 0), some (am_i (s1.1 ||| x7)), some (am_i s1.2)] dX2_lamps_27 rfl rfl (Nat.le_of_ble_eq_true rfl) rfl ?_
      refine am_iinc [some (am_r 1 0), some (am_i (s1.1 ||| x7)), some (am_i (s1.2 + 1))] dX2_lamps_28 rfl ic_1 rfl (Nat.le_of_ble_eq_true rfl) rfl ?_
      refine am_goto (tgt := 4) dX2_lamps_31 rfl ?_
      exact hr3 ((s1.1 ||| x7), (s1.2 + 1))
    refine am_if_leB (tgt := 25) dX2_lamps_16 rfl ?_ ?_
    · refine am_iconst dX2_lamps_25 ic_0 ?_
      exact hm8 (0 : Int32)
    · refine am_iconst dX2_lamps_19 ic_1 ?_
      refine am_iload_n dX2_lamps_20 rfl rfl ?_
      refine am_ishl dX2_lamps_21 ?_
      refine am_goto (tgt := 26) dX2_lamps_22 rfl ?_
      exact hm8 ((1 : Int32) <<< (s1.2 &&& 31))
def fX2_beat_L54  (rec1 : (Int32 × am_M) → Option (Int32 × am_M)) (s2 : (Int32 × am_M)) : Option (Int32 × am_M) :=
(if (8 : Int32) ≤ s2.1 then
some (s2.1, s2.2)
 else
(Option.bind (am_rd ((s2.2) 1 1) 36 ((16 : Int32) + s2.1)) fun v3 =>
(Option.bind (if (fX2_isThere ((s2.2) 1) s2.1) = 0 then
(if (fX2_isThere ((s2.2) 1) s2.1) = 0 then
some s2.2
 else
(Option.bind (am_rd ((s2.2) 1 1) 36 ((8 : Int32) + s2.1)) fun v4 =>
(Option.bind (am_wr s2.2 1 1 36 ((8 : Int32) + s2.1) (v4 - (1 : Int32))) fun M5 =>
(Option.bind (am_rd (M5 1 1) 36 ((8 : Int32) + s2.1)) fun v6 =>
(Option.bind (if v6 = 0 then
some (-6 : Int32)
 else
(Option.bind (am_rd (M5 1 1) 36 s2.1) fun v7 =>
some v7)) fun (x8 : Int32) =>
(Option.bind (am_wr M5 1 1 36 s2.1 x8) fun M9 =>
some M9))))))
 else
(Option.bind (am_rd ((s2.2) 1 1) 36 s2.1) fun v10 =>
(if 0 ≤ v10 then
(if (fX2_isThere ((s2.2) 1) s2.1) = 0 then
some s2.2
 else
(Option.bind (am_rd ((s2.2) 1 1) 36 ((8 : Int32) + s2.1)) fun v11 =>
(Option.bind (am_wr s2.2 1 1 36 ((8 : Int32) + s2.1) (v11 - (1 : Int32))) fun M12 =>
(Option.bind (am_rd (M12 1 1) 36 ((8 : Int32) + s2.1)) fun v13 =>
(Option.bind (if v13 = 0 then
some (-6 : Int32)
 else
(Option.bind (am_rd (M12 1 1) 36 s2.1) fun v14 =>
some v14)) fun (x15 : Int32) =>
(Option.bind (am_wr M12 1 1 36 s2.1 x15) fun M16 =>
some M16))))))
 else
(Option.bind (am_rd ((s2.2) 1 1) 36 ((24 : Int32) + v3)) fun v17 =>
(Option.bind (am_rd ((s2.2) 1 15) 10 v3) fun v18 =>
(Option.bind (if v18 ≤ (8 : Int32) then
(Option.bind (am_rd ((s2.2) 1 15) 10 v3) fun v19 =>
(if v19 ≤ 0 then
some (0 : Int32)
 else
some (1 : Int32)))
 else
some (2 : Int32)) fun (x20 : Int32) =>
(Option.bind (am_wr s2.2 1 1 36 ((24 : Int32) + v3) (v17 + x20)) fun M21 =>
(Option.bind (am_rd (M21 1 1) 36 ((8 : Int32) + s2.1)) fun v22 =>
(Option.bind (am_rd (M21 1 1) 36 ((8 : Int32) + s2.1)) fun v23 =>
(Option.bind (am_rd (M21 1 5) 8 s2.1) fun v24 =>
(Option.bind (if v24 ≤ v23 then
some (0 : Int32)
 else
some (1 : Int32)) fun (x25 : Int32) =>
(Option.bind (am_wr M21 1 1 36 ((8 : Int32) + s2.1) (v22 + x25)) fun M26 =>
some M26)))))))))))) fun (x27 : am_M) =>
rec1 ((s2.1 + 1), x27))))
def fX2_beat_L29  (rec1 : (Int32 × am_M) → Option (Int32 × am_M)) (s2 : (Int32 × am_M)) : Option (Int32 × am_M) :=
(if (10 : Int32) ≤ s2.1 then
some (s2.1, s2.2)
 else
(Option.bind (fX2_lightOf ((s2.2) 1) s2.1) fun v3 =>
(Option.bind (am_wr s2.2 1 15 10 s2.1 v3) fun M4 =>
rec1 ((s2.1 + 1), M4))))
def fX2_beat (M : am_M) : Option (Int32 × am_M) :=
(Option.bind (am_rd (M 1 1) 36 (35 : Int32)) fun v1 =>
(if v1 = (999 : Int32) then
some ((7 : Int32), M)
 else
(Option.bind (am_rd (M 1 1) 36 (35 : Int32)) fun v2 =>
(Option.bind (am_wr M 1 1 36 (35 : Int32) (v2 + (1 : Int32))) fun M3 =>
(Option.bind (am_it fX2_beat_L29 am_fuel ((0 : Int32), M3)) fun (s8 : (Int32 × am_M)) =>
(Option.bind (am_it fX2_beat_L54 am_fuel ((0 : Int32), s8.2)) fun (s15 : (Int32 × am_M)) =>
some ((0 : Int32), s15.2)))))))
set_option maxHeartbeats 4000000 in
theorem kX2_beat (G : am_G) (M : am_M)  : am_C G 6 mX2_beat [am_r 1 0] M (fun r => (some (am_i r.1), r.2)) (fX2_beat M) := by
  refine am_met (nL := 3) (ls0 := [some (am_r 1 0), none, none]) (by decide) rfl (Nat.le_of_ble_eq_true rfl) (And.intro rfl trivial) ?_
  unfold fX2_beat
  refine am_aload_n dX2_beat_0 rfl rfl ?_
  refine am_getA lf_X2_13 rfl rfl dX2_beat_1 ?_
  refine am_bipush dX2_beat_4 bp_35 ?_
  refine am_iald (β := Unit) rfl dX2_beat_6 (fun v1 => ?_)
  refine am_sipush dX2_beat_7 sp_999 ?_
  refine am_icmp_ne (tgt := 16) dX2_beat_10 rfl ?_ ?_
  · refine am_bipush dX2_beat_13 bp_7 ?_
    exact am_iret dX2_beat_15 rfl rfl
  · refine am_aload_n dX2_beat_16 rfl rfl ?_
    refine am_getA lf_X2_13 rfl rfl dX2_beat_17 ?_
    refine am_bipush dX2_beat_20 bp_35 ?_
    refine am_dup2 dX2_beat_22 rfl rfl ?_
    refine am_iald (β := Unit) rfl dX2_beat_23 (fun v2 => ?_)
    refine am_iconst dX2_beat_24 ic_1 ?_
    refine am_iadd dX2_beat_25 ?_
    refine am_iast rfl dX2_beat_26 (fun M3 => ?_)
    refine am_iconst dX2_beat_27 ic_0 ?_
    refine am_istore_n [some (am_r 1 0), some (am_i (0 : Int32)), none] dX2_beat_28 rfl rfl (Nat.le_of_ble_eq_true rfl) rfl ?_
    refine am_join (β := (Int32 × am_M)) 52 (fun s8 => [some (am_r 1 0), none, none]) (fun _ => []) (fun s8 => s8.2) (fun s8 => ?_) (fun hx7 => ?_)
    · refine am_iconst dX2_beat_52 ic_0 ?_
      refine am_istore_n [some (am_r 1 0), some (am_i (0 : Int32)), none] dX2_beat_53 rfl rfl (Nat.le_of_ble_eq_true rfl) rfl ?_
      refine am_join (β := (Int32 × am_M)) 222 (fun s15 => [none, none, none]) (fun _ => []) (fun s15 => s15.2) (fun s15 => ?_) (fun hx14 => ?_)
      · refine am_iconst dX2_beat_222 ic_0 ?_
        exact am_iret dX2_beat_223 rfl rfl
      refine am_loop (σ := (Int32 × am_M)) (ls' := fun s11 => [some (am_r 1 0), some (am_i s11.1), none]) (st' := fun _ => []) (M' := fun s11 => s11.2) (fun rec12 hr13 s11 => ?_) _ _
      unfold fX2_beat_L54
      refine am_iload_n dX2_beat_54 rfl rfl ?_
      refine am_bipush dX2_beat_55 bp_8 ?_
      refine am_icmp_geB (tgt := 222) dX2_beat_57 rfl ?_ ?_
      · exact am_dr (hx14 (s11.1, s11.2)) trivial
      · refine am_aload_n dX2_beat_60 rfl rfl ?_
        refine am_getA lf_X2_13 rfl rfl dX2_beat_61 ?_
        refine am_bipush dX2_beat_64 bp_16 ?_
        refine am_iload_n dX2_beat_66 rfl rfl ?_
        refine am_iadd dX2_beat_67 ?_
        refine am_as ?_
        refine am_iald (β := Unit) rfl dX2_beat_68 (fun v16 => ?_)
        refine am_istore_n [some (am_r 1 0), some (am_i s11.1), some (am_i v16)] dX2_beat_69 rfl rfl (Nat.le_of_ble_eq_true rfl) rfl ?_
        refine am_aload_n dX2_beat_70 rfl rfl ?_
        refine am_iload_n dX2_beat_71 rfl rfl ?_
        refine am_cVT (as' := [am_i s11.1]) lc_X2_82 rfl (kX2_isThere G s11.2 s11.1) rfl rfl rfl rfl rfl rfl dX2_beat_72 ?_
        refine am_as ?_
        refine am_join (β := am_M) 216 (fun x17 => [some (am_r 1 0), some (am_i s11.1), some (am_i v16)]) (fun x17 => []) (fun x17 => x17) (fun x17 => ?_) (fun hm18 => ?_)
        · refine am_iinc [some (am_r 1 0), some (am_i (s11.1 + 1)), some (am_i v16)] dX2_beat_216 rfl ic_1 rfl (Nat.le_of_ble_eq_true rfl) rfl ?_
          refine am_goto (tgt := 54) dX2_beat_219 rfl ?_
          exact am_dr (hr13 ((s11.1 + 1), x17)) (And.intro rfl (And.intro rfl trivial))
        refine am_if_eqB (tgt := 166) dX2_beat_75 rfl ?_ ?_
        · refine am_aload_n dX2_beat_166 rfl rfl ?_
          refine am_iload_n dX2_beat_167 rfl rfl ?_
          refine am_cVT (as' := [am_i s11.1]) lc_X2_82 rfl (kX2_isThere G s11.2 s11.1) rfl rfl rfl rfl rfl rfl dX2_beat_168 ?_
          refine am_if_eqB (tgt := 216) dX2_beat_171 rfl ?_ ?_
          · exact hm18 s11.2
          · refine am_aload_n dX2_beat_174 rfl rfl ?_
            refine am_getA lf_X2_13 rfl rfl dX2_beat_175 ?_
            refine am_bipush dX2_beat_178 bp_8 ?_
            refine am_iload_n dX2_beat_180 rfl rfl ?_
            refine am_iadd dX2_beat_181 ?_
            refine am_dup2 dX2_beat_182 rfl rfl ?_
            refine am_as ?_
            refine am_iald (β := Unit) rfl dX2_beat_183 (fun v19 => ?_)
            refine am_iconst dX2_beat_184 ic_1 ?_
            refine am_isub dX2_beat_185 ?_
            refine am_as ?_
            refine am_iast rfl dX2_beat_186 (fun M20 => ?_)
            refine am_aload_n dX2_beat_187 rfl rfl ?_
            refine am_getA lf_X2_13 rfl rfl dX2_beat_188 ?_
            refine am_iload_n dX2_beat_191 rfl rfl ?_
            refine am_aload_n dX2_beat_192 rfl rfl ?_
            refine am_getA lf_X2_13 rfl rfl dX2_beat_193 ?_
            refine am_bipush dX2_beat_196 bp_8 ?_
            refine am_iload_n dX2_beat_198 rfl rfl ?_
            refine am_iadd dX2_beat_199 ?_
            refine am_as ?_
            refine am_iald (β := Unit) rfl dX2_beat_200 (fun v21 => ?_)
            refine am_as ?_
            refine am_join (β := Int32) 215 (fun x22 => [some (am_r 1 0), some (am_i s11.1), some (am_i v16)]) (fun x22 => [am_i x22, am_i s11.1, am_r 1 2]) (fun x22 => M20) (fun x22 => ?_) (fun hm23 => ?_)
            · refine am_as ?_
              refine am_iast rfl dX2_beat_215 (fun M25 => ?_)
              exact hm18 M25
            refine am_if_neB (tgt := 209) dX2_beat_201 rfl ?_ ?_
            · refine am_bipush dX2_beat_204 bp_m6 ?_
              refine am_goto (tgt := 215) dX2_beat_206 rfl ?_
              exact hm23 (-6 : Int32)
            · refine am_aload_n dX2_beat_209 rfl rfl ?_
              refine am_getA lf_X2_13 rfl rfl dX2_beat_210 ?_
              refine am_iload_n dX2_beat_213 rfl rfl ?_
              refine am_as ?_
              refine am_iald (β := Unit) rfl dX2_beat_214 (fun v24 => ?_)
              exact hm23 v24
        · refine am_aload_n dX2_beat_78 rfl rfl ?_
          refine am_getA lf_X2_13 rfl rfl dX2_beat_79 ?_
          refine am_iload_n dX2_beat_82 rfl rfl ?_
          refine am_as ?_
          refine am_iald (β := Unit) rfl dX2_beat_83 (fun v26 => ?_)
          refine am_if_geB (tgt := 166) dX2_beat_84 rfl ?_ ?_
          · refine am_aload_n dX2_beat_166 rfl rfl ?_
            refine am_iload_n dX2_beat_167 rfl rfl ?_
            refine am_cVT (as' := [am_i s11.1]) lc_X2_82 rfl (kX2_isThere G s11.2 s11.1) rfl rfl rfl rfl rfl rfl dX2_beat_168 ?_
            refine am_if_eqB (tgt := 216) dX2_beat_171 rfl ?_ ?_
            · exact hm18 s11.2
            · refine am_aload_n dX2_beat_174 rfl rfl ?_
              refine am_getA lf_X2_13 rfl rfl dX2_beat_175 ?_
              refine am_bipush dX2_beat_178 bp_8 ?_
              refine am_iload_n dX2_beat_180 rfl rfl ?_
              refine am_iadd dX2_beat_181 ?_
              refine am_dup2 dX2_beat_182 rfl rfl ?_
              refine am_as ?_
              refine am_iald (β := Unit) rfl dX2_beat_183 (fun v27 => ?_)
              refine am_iconst dX2_beat_184 ic_1 ?_
              refine am_isub dX2_beat_185 ?_
              refine am_as ?_
              refine am_iast rfl dX2_beat_186 (fun M28 => ?_)
              refine am_aload_n dX2_beat_187 rfl rfl ?_
              refine am_getA lf_X2_13 rfl rfl dX2_beat_188 ?_
              refine am_iload_n dX2_beat_191 rfl rfl ?_
              refine am_aload_n dX2_beat_192 rfl rfl ?_
              refine am_getA lf_X2_13 rfl rfl dX2_beat_193 ?_
              refine am_bipush dX2_beat_196 bp_8 ?_
              refine am_iload_n dX2_beat_198 rfl rfl ?_
              refine am_iadd dX2_beat_199 ?_
              refine am_as ?_
              refine am_iald (β := Unit) rfl dX2_beat_200 (fun v29 => ?_)
              refine am_as ?_
              refine am_join (β := Int32) 215 (fun x30 => [some (am_r 1 0), some (am_i s11.1), some (am_i v16)]) (fun x30 => [am_i x30, am_i s11.1, am_r 1 2]) (fun x30 => M28) (fun x30 => ?_) (fun hm31 => ?_)
              · refine am_as ?_
                refine am_iast rfl dX2_beat_215 (fun M33 => ?_)
                exact hm18 M33
              refine am_if_neB (tgt := 209) dX2_beat_201 rfl ?_ ?_
              · refine am_bipush dX2_beat_204 bp_m6 ?_
                refine am_goto (tgt := 215) dX2_beat_206 rfl ?_
                exact hm31 (-6 : Int32)
              · refine am_aload_n dX2_beat_209 rfl rfl ?_
                refine am_getA lf_X2_13 rfl rfl dX2_beat_210 ?_
                refine am_iload_n dX2_beat_213 rfl rfl ?_
                refine am_as ?_
                refine am_iald (β := Unit) rfl dX2_beat_214 (fun v32 => ?_)
                exact hm31 v32
          · refine am_aload_n dX2_beat_87 rfl rfl ?_
            refine am_getA lf_X2_13 rfl rfl dX2_beat_88 ?_
            refine am_bipush dX2_beat_91 bp_24 ?_
            refine am_iload_n dX2_beat_93 rfl rfl ?_
            refine am_iadd dX2_beat_94 ?_
            refine am_dup2 dX2_beat_95 rfl rfl ?_
            refine am_as ?_
            refine am_iald (β := Unit) rfl dX2_beat_96 (fun v34 => ?_)
            refine am_aload_n dX2_beat_97 rfl rfl ?_
            refine am_getA lf_X2_37 rfl rfl dX2_beat_98 ?_
            refine am_iload_n dX2_beat_101 rfl rfl ?_
            refine am_as ?_
            refine am_iald (β := Unit) rfl dX2_beat_102 (fun v35 => ?_)
            refine am_bipush dX2_beat_103 bp_8 ?_
            refine am_as ?_
            refine am_join (β := Int32) 126 (fun x36 => [some (am_r 1 0), some (am_i s11.1), some (am_i v16)]) (fun x36 => [am_i x36, am_i v34, am_i ((24 : Int32) + v16), am_r 1 2]) (fun x36 => s11.2) (fun x36 => ?_) (fun hm37 => ?_)
            · refine am_iadd dX2_beat_126 ?_
              refine am_as ?_
              refine am_iast rfl dX2_beat_127 (fun M39 => ?_)
              refine am_aload_n dX2_beat_128 rfl rfl ?_
              refine am_getA lf_X2_13 rfl rfl dX2_beat_129 ?_
              refine am_bipush dX2_beat_132 bp_8 ?_
              refine am_iload_n dX2_beat_134 rfl rfl ?_
              refine am_iadd dX2_beat_135 ?_
              refine am_dup2 dX2_beat_136 rfl rfl ?_
              refine am_as ?_
              refine am_iald (β := Unit) rfl dX2_beat_137 (fun v40 => ?_)
              refine am_aload_n dX2_beat_138 rfl rfl ?_
              refine am_getA lf_X2_13 rfl rfl dX2_beat_139 ?_
              refine am_bipush dX2_beat_142 bp_8 ?_
              refine am_iload_n dX2_beat_144 rfl rfl ?_
              refine am_iadd dX2_beat_145 ?_
              refine am_as ?_
              refine am_iald (β := Unit) rfl dX2_beat_146 (fun v41 => ?_)
              refine am_aload_n dX2_beat_147 rfl rfl ?_
              refine am_getA lf_X2_22 rfl rfl dX2_beat_148 ?_
              refine am_iload_n dX2_beat_151 rfl rfl ?_
              refine am_as ?_
              refine am_iald (β := Unit) rfl dX2_beat_152 (fun v42 => ?_)
              refine am_as ?_
              refine am_join (β := Int32) 161 (fun x43 => [some (am_r 1 0), some (am_i s11.1), some (am_i v16)]) (fun x43 => [am_i x43, am_i v40, am_i ((8 : Int32) + s11.1), am_r 1 2]) (fun x43 => M39) (fun x43 => ?_) (fun hm44 => ?_)
              · refine am_iadd dX2_beat_161 ?_
                refine am_as ?_
                refine am_iast rfl dX2_beat_162 (fun M45 => ?_)
                refine am_goto (tgt := 216) dX2_beat_163 rfl ?_
                exact hm18 M45
              refine am_icmp_geB (tgt := 160) dX2_beat_153 rfl ?_ ?_
              · refine am_iconst dX2_beat_160 ic_0 ?_
                exact hm44 (0 : Int32)
              · refine am_iconst dX2_beat_156 ic_1 ?_
                refine am_goto (tgt := 161) dX2_beat_157 rfl ?_
                exact hm44 (1 : Int32)
            refine am_icmp_leB (tgt := 112) dX2_beat_105 rfl ?_ ?_
            · refine am_aload_n dX2_beat_112 rfl rfl ?_
              refine am_getA lf_X2_37 rfl rfl dX2_beat_113 ?_
              refine am_iload_n dX2_beat_116 rfl rfl ?_
              refine am_as ?_
              refine am_iald (β := Unit) rfl dX2_beat_117 (fun v38 => ?_)
              refine am_if_leB (tgt := 125) dX2_beat_118 rfl ?_ ?_
              · refine am_iconst dX2_beat_125 ic_0 ?_
                exact hm37 (0 : Int32)
              · refine am_iconst dX2_beat_121 ic_1 ?_
                refine am_goto (tgt := 126) dX2_beat_122 rfl ?_
                exact hm37 (1 : Int32)
            · refine am_iconst dX2_beat_108 ic_2 ?_
              refine am_goto (tgt := 126) dX2_beat_109 rfl ?_
              exact hm37 (2 : Int32)
    refine am_loop (σ := (Int32 × am_M)) (ls' := fun s4 => [some (am_r 1 0), some (am_i s4.1), none]) (st' := fun _ => []) (M' := fun s4 => s4.2) (fun rec5 hr6 s4 => ?_) _ _
    unfold fX2_beat_L29
    refine am_iload_n dX2_beat_29 rfl rfl ?_
    refine am_bipush dX2_beat_30 bp_10 ?_
    refine am_icmp_geB (tgt := 52) dX2_beat_32 rfl ?_ ?_
    · exact am_dr (hx7 (s4.1, s4.2)) (And.intro rfl trivial)
    · refine am_aload_n dX2_beat_35 rfl rfl ?_
      refine am_getA lf_X2_37 rfl rfl dX2_beat_36 ?_
      refine am_iload_n dX2_beat_39 rfl rfl ?_
      refine am_aload_n dX2_beat_40 rfl rfl ?_
      refine am_iload_n dX2_beat_41 rfl rfl ?_
      refine am_as ?_
      refine am_cVI (as' := [am_i s4.1]) lc_X2_101 rfl (kX2_lightOf G s4.2 s4.1) rfl rfl rfl rfl rfl rfl dX2_beat_42 (fun v9 => ?_)
      refine am_as ?_
      refine am_iast rfl dX2_beat_45 (fun M10 => ?_)
      refine am_iinc [some (am_r 1 0), some (am_i (s4.1 + 1)), none] dX2_beat_46 rfl ic_1 rfl (Nat.le_of_ble_eq_true rfl) rfl ?_
      refine am_goto (tgt := 29) dX2_beat_49 rfl ?_
      exact hr6 ((s4.1 + 1), M10)
