/-! walks, printed by gen/decomp.py -/
set_option maxRecDepth 100000
def fX2_image_L160 (a1 : Int32) (rec1 : (Int32 × am_M) → Option (Int32 × am_M)) (s2 : (Int32 × am_M)) : Option (Int32 × am_M) :=
(if (16 : Int32) ≤ s2.1 then
some (s2.1, s2.2)
 else
(Option.bind (am_rd ((s2.2) 1 10) 16 s2.1) fun v3 =>
(Option.bind (am_wr s2.2 1 22 220 ((((110 : Int32) * a1) + (80 : Int32)) + s2.1) v3) fun M4 =>
rec1 ((s2.1 + 1), M4))))
def fX2_image_L112 (a1 : Int32) (rec1 : (Int32 × am_M) → Option (Int32 × am_M)) (s2 : (Int32 × am_M)) : Option (Int32 × am_M) :=
(if (10 : Int32) ≤ s2.1 then
some (s2.1, s2.2)
 else
(Option.bind (am_rd ((s2.2) 1 6) 10 s2.1) fun v3 =>
(Option.bind (am_wr s2.2 1 22 220 ((((110 : Int32) * a1) + (60 : Int32)) + s2.1) v3) fun M4 =>
(Option.bind (am_rd (M4 1 7) 10 s2.1) fun v5 =>
(Option.bind (am_wr M4 1 22 220 ((((110 : Int32) * a1) + (70 : Int32)) + s2.1) v5) fun M6 =>
rec1 ((s2.1 + 1), M6))))))
def fX2_image_L47 (a1 : Int32) (rec1 : (Int32 × am_M) → Option (Int32 × am_M)) (s2 : (Int32 × am_M)) : Option (Int32 × am_M) :=
(if (8 : Int32) ≤ s2.1 then
some (s2.1, s2.2)
 else
(Option.bind (am_rd ((s2.2) 1 3) 8 s2.1) fun v3 =>
(Option.bind (am_wr s2.2 1 22 220 ((((110 : Int32) * a1) + (36 : Int32)) + s2.1) v3) fun M4 =>
(Option.bind (am_rd (M4 1 4) 8 s2.1) fun v5 =>
(Option.bind (am_wr M4 1 22 220 ((((110 : Int32) * a1) + (44 : Int32)) + s2.1) v5) fun M6 =>
(Option.bind (am_rd (M6 1 5) 8 s2.1) fun v7 =>
(Option.bind (am_wr M6 1 22 220 ((((110 : Int32) * a1) + (52 : Int32)) + s2.1) v7) fun M8 =>
rec1 ((s2.1 + 1), M8))))))))
def fX2_image_L19 (a1 : Int32) (rec1 : (Int32 × am_M) → Option (Int32 × am_M)) (s2 : (Int32 × am_M)) : Option (Int32 × am_M) :=
(if (36 : Int32) ≤ s2.1 then
some (s2.1, s2.2)
 else
(Option.bind (am_rd ((s2.2) 1 0) 36 s2.1) fun v3 =>
(Option.bind (am_wr s2.2 1 22 220 (((110 : Int32) * a1) + s2.1) v3) fun M4 =>
rec1 ((s2.1 + 1), M4))))
def fX2_image (M : am_M) (a1 : Int32) : Option (Int32 × am_M) :=
(if (fX2_in a1 (0 : Int32) (1 : Int32)) = 0 then
some ((-2 : Int32), M)
 else
(Option.bind (am_it (fX2_image_L19 a1) am_fuel ((0 : Int32), M)) fun (s5 : (Int32 × am_M)) =>
(Option.bind (am_it (fX2_image_L47 a1) am_fuel ((0 : Int32), s5.2)) fun (s12 : (Int32 × am_M)) =>
(Option.bind (am_it (fX2_image_L112 a1) am_fuel ((0 : Int32), s12.2)) fun (s23 : (Int32 × am_M)) =>
(Option.bind (am_it (fX2_image_L160 a1) am_fuel ((0 : Int32), s23.2)) fun (s32 : (Int32 × am_M)) =>
(Option.bind (am_wr s32.2 1 22 220 (((110 : Int32) * a1) + (100 : Int32)) ((s32.2) 1 2 0)) fun M35 =>
(Option.bind (am_wr M35 1 22 220 (((110 : Int32) * a1) + (101 : Int32)) (M35 1 8 0)) fun M36 =>
(Option.bind (am_wr M36 1 22 220 (((110 : Int32) * a1) + (102 : Int32)) (M36 1 9 0)) fun M37 =>
(Option.bind (am_wr M37 1 23 2 a1 (vp_nar .boolean (1 : Int32))) fun M38 =>
some ((1 : Int32), M38))))))))))
set_option maxHeartbeats 4000000 in
theorem kX2_image (G : am_G) (M : am_M) (a1 : Int32) : am_C G 2 mX2_image [am_r 1 0, am_i a1] M (fun r => (some (am_i r.1), r.2)) (fX2_image M a1) := by
  refine am_met (nL := 4) (ls0 := [some (am_r 1 0), some (am_i a1), none, none]) (by decide) rfl (Nat.le_of_ble_eq_true rfl) (And.intro rfl (And.intro rfl trivial)) ?_
  unfold fX2_image
  refine am_iload_n dX2_image_0 rfl rfl ?_
  refine am_iconst dX2_image_1 ic_0 ?_
  refine am_iconst dX2_image_2 ic_1 ?_
  refine am_cST lc_X2_59 (kX2_in G M a1 (0 : Int32) (1 : Int32)) rfl rfl rfl rfl rfl dX2_image_3 ?_
  refine am_if_ne (tgt := 12) dX2_image_6 rfl ?_ ?_
  · refine am_bipush dX2_image_9 bp_m2 ?_
    exact am_iret dX2_image_11 rfl rfl
  · refine am_bipush dX2_image_12 bp_110 ?_
    refine am_iload_n dX2_image_14 rfl rfl ?_
    refine am_imul dX2_image_15 ?_
    refine am_istore_n [some (am_r 1 0), some (am_i a1), some (am_i ((110 : Int32) * a1)), none] dX2_image_16 rfl rfl (Nat.le_of_ble_eq_true rfl) rfl ?_
    refine am_iconst dX2_image_17 ic_0 ?_
    refine am_istore_n [some (am_r 1 0), some (am_i a1), some (am_i ((110 : Int32) * a1)), some (am_i (0 : Int32))] dX2_image_18 rfl rfl (Nat.le_of_ble_eq_true rfl) rfl ?_
    refine am_join (β := (Int32 × am_M)) 45 (fun s5 => [some (am_r 1 0), some (am_i a1), some (am_i ((110 : Int32) * a1)), none]) (fun _ => []) (fun s5 => s5.2) (fun s5 => ?_) (fun hx4 => ?_)
    · refine am_iconst dX2_image_45 ic_0 ?_
      refine am_istore_n [some (am_r 1 0), some (am_i a1), some (am_i ((110 : Int32) * a1)), some (am_i (0 : Int32))] dX2_image_46 rfl rfl (Nat.le_of_ble_eq_true rfl) rfl ?_
      refine am_join (β := (Int32 × am_M)) 110 (fun s12 => [some (am_r 1 0), some (am_i a1), some (am_i ((110 : Int32) * a1)), none]) (fun _ => []) (fun s12 => s12.2) (fun s12 => ?_) (fun hx11 => ?_)
      · refine am_iconst dX2_image_110 ic_0 ?_
        refine am_istore_n [some (am_r 1 0), some (am_i a1), some (am_i ((110 : Int32) * a1)), some (am_i (0 : Int32))] dX2_image_111 rfl rfl (Nat.le_of_ble_eq_true rfl) rfl ?_
        refine am_join (β := (Int32 × am_M)) 158 (fun s23 => [some (am_r 1 0), some (am_i a1), some (am_i ((110 : Int32) * a1)), none]) (fun _ => []) (fun s23 => s23.2) (fun s23 => ?_) (fun hx22 => ?_)
        · refine am_iconst dX2_image_158 ic_0 ?_
          refine am_istore_n [some (am_r 1 0), some (am_i a1), some (am_i ((110 : Int32) * a1)), some (am_i (0 : Int32))] dX2_image_159 rfl rfl (Nat.le_of_ble_eq_true rfl) rfl ?_
          refine am_join (β := (Int32 × am_M)) 189 (fun s32 => [some (am_r 1 0), some (am_i a1), some (am_i ((110 : Int32) * a1)), none]) (fun _ => []) (fun s32 => s32.2) (fun s32 => ?_) (fun hx31 => ?_)
          · refine am_aload_n dX2_image_189 rfl rfl ?_
            refine am_getA lf_X2_53 rfl rfl dX2_image_190 ?_
            refine am_iload_n dX2_image_193 rfl rfl ?_
            refine am_bipush dX2_image_194 bp_100 ?_
            refine am_iadd dX2_image_196 ?_
            refine am_aload_n dX2_image_197 rfl rfl ?_
            refine am_get lf_X2_63 rfl rfl dX2_image_198 ?_
            refine am_iast rfl dX2_image_201 (fun M35 => ?_)
            refine am_aload_n dX2_image_202 rfl rfl ?_
            refine am_getA lf_X2_53 rfl rfl dX2_image_203 ?_
            refine am_iload_n dX2_image_206 rfl rfl ?_
            refine am_bipush dX2_image_207 bp_101 ?_
            refine am_iadd dX2_image_209 ?_
            refine am_aload_n dX2_image_210 rfl rfl ?_
            refine am_get lf_X2_79 rfl rfl dX2_image_211 ?_
            refine am_iast rfl dX2_image_214 (fun M36 => ?_)
            refine am_aload_n dX2_image_215 rfl rfl ?_
            refine am_getA lf_X2_53 rfl rfl dX2_image_216 ?_
            refine am_iload_n dX2_image_219 rfl rfl ?_
            refine am_bipush dX2_image_220 bp_102 ?_
            refine am_iadd dX2_image_222 ?_
            refine am_aload_n dX2_image_223 rfl rfl ?_
            refine am_get lf_X2_160 rfl rfl dX2_image_224 ?_
            refine am_iast rfl dX2_image_227 (fun M37 => ?_)
            refine am_aload_n dX2_image_228 rfl rfl ?_
            refine am_getA lf_X2_56 rfl rfl dX2_image_229 ?_
            refine am_iload_n dX2_image_232 rfl rfl ?_
            refine am_iconst dX2_image_233 ic_1 ?_
            refine am_zast rfl dX2_image_234 (fun M38 => ?_)
            refine am_iconst dX2_image_235 ic_1 ?_
            exact am_iret dX2_image_236 rfl rfl
          refine am_loop (σ := (Int32 × am_M)) (ls' := fun s28 => [some (am_r 1 0), some (am_i a1), some (am_i ((110 : Int32) * a1)), some (am_i s28.1)]) (st' := fun _ => []) (M' := fun s28 => s28.2) (fun rec29 hr30 s28 => ?_) _ _
          unfold fX2_image_L160
          refine am_iload_n dX2_image_160 rfl rfl ?_
          refine am_bipush dX2_image_161 bp_16 ?_
          refine am_icmp_geB (tgt := 189) dX2_image_163 rfl ?_ ?_
          · exact am_dr (hx31 (s28.1, s28.2)) (And.intro rfl (And.intro rfl (And.intro rfl trivial)))
          · refine am_aload_n dX2_image_166 rfl rfl ?_
            refine am_getA lf_X2_53 rfl rfl dX2_image_167 ?_
            refine am_iload_n dX2_image_170 rfl rfl ?_
            refine am_bipush dX2_image_171 bp_80 ?_
            refine am_iadd dX2_image_173 ?_
            refine am_iload_n dX2_image_174 rfl rfl ?_
            refine am_iadd dX2_image_175 ?_
            refine am_aload_n dX2_image_176 rfl rfl ?_
            refine am_getA lf_X2_31 rfl rfl dX2_image_177 ?_
            refine am_iload_n dX2_image_180 rfl rfl ?_
            refine am_as ?_
            refine am_iald (β := Unit) rfl dX2_image_181 (fun v33 => ?_)
            refine am_as ?_
            refine am_iast rfl dX2_image_182 (fun M34 => ?_)
            refine am_iinc [some (am_r 1 0), some (am_i a1), some (am_i ((110 : Int32) * a1)), some (am_i (s28.1 + 1))] dX2_image_183 rfl ic_1 rfl (Nat.le_of_ble_eq_true rfl) rfl ?_
            refine am_goto (tgt := 160) dX2_image_186 rfl ?_
            exact hr30 ((s28.1 + 1), M34)
        refine am_loop (σ := (Int32 × am_M)) (ls' := fun s19 => [some (am_r 1 0), some (am_i a1), some (am_i ((110 : Int32) * a1)), some (am_i s19.1)]) (st' := fun _ => []) (M' := fun s19 => s19.2) (fun rec20 hr21 s19 => ?_) _ _
        unfold fX2_image_L112
        refine am_iload_n dX2_image_112 rfl rfl ?_
        refine am_bipush dX2_image_113 bp_10 ?_
        refine am_icmp_geB (tgt := 158) dX2_image_115 rfl ?_ ?_
        · exact am_dr (hx22 (s19.1, s19.2)) (And.intro rfl (And.intro rfl (And.intro rfl trivial)))
        · refine am_aload_n dX2_image_118 rfl rfl ?_
          refine am_getA lf_X2_53 rfl rfl dX2_image_119 ?_
          refine am_iload_n dX2_image_122 rfl rfl ?_
          refine am_bipush dX2_image_123 bp_60 ?_
          refine am_iadd dX2_image_125 ?_
          refine am_iload_n dX2_image_126 rfl rfl ?_
          refine am_iadd dX2_image_127 ?_
          refine am_aload_n dX2_image_128 rfl rfl ?_
          refine am_getA lf_X2_25 rfl rfl dX2_image_129 ?_
          refine am_iload_n dX2_image_132 rfl rfl ?_
          refine am_as ?_
          refine am_iald (β := Unit) rfl dX2_image_133 (fun v24 => ?_)
          refine am_as ?_
          refine am_iast rfl dX2_image_134 (fun M25 => ?_)
          refine am_aload_n dX2_image_135 rfl rfl ?_
          refine am_getA lf_X2_53 rfl rfl dX2_image_136 ?_
          refine am_iload_n dX2_image_139 rfl rfl ?_
          refine am_bipush dX2_image_140 bp_70 ?_
          refine am_iadd dX2_image_142 ?_
          refine am_iload_n dX2_image_143 rfl rfl ?_
          refine am_iadd dX2_image_144 ?_
          refine am_aload_n dX2_image_145 rfl rfl ?_
          refine am_getA lf_X2_28 rfl rfl dX2_image_146 ?_
          refine am_iload_n dX2_image_149 rfl rfl ?_
          refine am_as ?_
          refine am_iald (β := Unit) rfl dX2_image_150 (fun v26 => ?_)
          refine am_as ?_
          refine am_iast rfl dX2_image_151 (fun M27 => ?_)
          refine am_iinc [some (am_r 1 0), some (am_i a1), some (am_i ((110 : Int32) * a1)), some (am_i (s19.1 + 1))] dX2_image_152 rfl ic_1 rfl (Nat.le_of_ble_eq_true rfl) rfl ?_
          refine am_goto (tgt := 112) dX2_image_155 rfl ?_
          exact hr21 ((s19.1 + 1), M27)
      refine am_loop (σ := (Int32 × am_M)) (ls' := fun s8 => [some (am_r 1 0), some (am_i a1), some (am_i ((110 : Int32) * a1)), some (am_i s8.1)]) (st' := fun _ => []) (M' := fun s8 => s8.2) (fun rec9 hr10 s8 => ?_) _ _
      unfold fX2_image_L47
      refine am_iload_n dX2_image_47 rfl rfl ?_
      refine am_bipush dX2_image_48 bp_8 ?_
      refine am_icmp_geB (tgt := 110) dX2_image_50 rfl ?_ ?_
      · exact am_dr (hx11 (s8.1, s8.2)) (And.intro rfl (And.intro rfl (And.intro rfl trivial)))
      · refine am_aload_n dX2_image_53 rfl rfl ?_
        refine am_getA lf_X2_53 rfl rfl dX2_image_54 ?_
        refine am_iload_n dX2_image_57 rfl rfl ?_
        refine am_bipush dX2_image_58 bp_36 ?_
        refine am_iadd dX2_image_60 ?_
        refine am_iload_n dX2_image_61 rfl rfl ?_
        refine am_iadd dX2_image_62 ?_
        refine am_aload_n dX2_image_63 rfl rfl ?_
        refine am_getA lf_X2_16 rfl rfl dX2_image_64 ?_
        refine am_iload_n dX2_image_67 rfl rfl ?_
        refine am_as ?_
        refine am_iald (β := Unit) rfl dX2_image_68 (fun v13 => ?_)
        refine am_as ?_
        refine am_iast rfl dX2_image_69 (fun M14 => ?_)
        refine am_aload_n dX2_image_70 rfl rfl ?_
        refine am_getA lf_X2_53 rfl rfl dX2_image_71 ?_
        refine am_iload_n dX2_image_74 rfl rfl ?_
        refine am_bipush dX2_image_75 bp_44 ?_
        refine am_iadd dX2_image_77 ?_
        refine am_iload_n dX2_image_78 rfl rfl ?_
        refine am_iadd dX2_image_79 ?_
        refine am_aload_n dX2_image_80 rfl rfl ?_
        refine am_getA lf_X2_19 rfl rfl dX2_image_81 ?_
        refine am_iload_n dX2_image_84 rfl rfl ?_
        refine am_as ?_
        refine am_iald (β := Unit) rfl dX2_image_85 (fun v15 => ?_)
        refine am_as ?_
        refine am_iast rfl dX2_image_86 (fun M16 => ?_)
        refine am_aload_n dX2_image_87 rfl rfl ?_
        refine am_getA lf_X2_53 rfl rfl dX2_image_88 ?_
        refine am_iload_n dX2_image_91 rfl rfl ?_
        refine am_bipush dX2_image_92 bp_52 ?_
        refine am_iadd dX2_image_94 ?_
        refine am_iload_n dX2_image_95 rfl rfl ?_
        refine am_iadd dX2_image_96 ?_
        refine am_aload_n dX2_image_97 rfl rfl ?_
        refine am_getA lf_X2_22 rfl rfl dX2_image_98 ?_
        refine am_iload_n dX2_image_101 rfl rfl ?_
        refine am_as ?_
        refine am_iald (β := Unit) rfl dX2_image_102 (fun v17 => ?_)
        refine am_as ?_
        refine am_iast rfl dX2_image_103 (fun M18 => ?_)
        refine am_iinc [some (am_r 1 0), some (am_i a1), some (am_i ((110 : Int32) * a1)), some (am_i (s8.1 + 1))] dX2_image_104 rfl ic_1 rfl (Nat.le_of_ble_eq_true rfl) rfl ?_
        refine am_goto (tgt := 47) dX2_image_107 rfl ?_
        exact hr10 ((s8.1 + 1), M18)
    refine am_loop (σ := (Int32 × am_M)) (ls' := fun s1 => [some (am_r 1 0), some (am_i a1), some (am_i ((110 : Int32) * a1)), some (am_i s1.1)]) (st' := fun _ => []) (M' := fun s1 => s1.2) (fun rec2 hr3 s1 => ?_) _ _
    unfold fX2_image_L19
    refine am_iload_n dX2_image_19 rfl rfl ?_
    refine am_bipush dX2_image_20 bp_36 ?_
    refine am_icmp_geB (tgt := 45) dX2_image_22 rfl ?_ ?_
    · exact am_dr (hx4 (s1.1, s1.2)) (And.intro rfl (And.intro rfl (And.intro rfl trivial)))
    · refine am_aload_n dX2_image_25 rfl rfl ?_
      refine am_getA lf_X2_53 rfl rfl dX2_image_26 ?_
      refine am_iload_n dX2_image_29 rfl rfl ?_
      refine am_iload_n dX2_image_30 rfl rfl ?_
      refine am_iadd dX2_image_31 ?_
      refine am_aload_n dX2_image_32 rfl rfl ?_
      refine am_getA lf_X2_7 rfl rfl dX2_image_33 ?_
      refine am_iload_n dX2_image_36 rfl rfl ?_
      refine am_as ?_
      refine am_iald (β := Unit) rfl dX2_image_37 (fun v6 => ?_)
      refine am_as ?_
      refine am_iast rfl dX2_image_38 (fun M7 => ?_)
      refine am_iinc [some (am_r 1 0), some (am_i a1), some (am_i ((110 : Int32) * a1)), some (am_i (s1.1 + 1))] dX2_image_39 rfl ic_1 rfl (Nat.le_of_ble_eq_true rfl) rfl ?_
      refine am_goto (tgt := 19) dX2_image_42 rfl ?_
      exact hr3 ((s1.1 + 1), M7)
def fX2_restore_L172 (a1 : Int32) (rec1 : (Int32 × am_M) → Option (Int32 × am_M)) (s2 : (Int32 × am_M)) : Option (Int32 × am_M) :=
(if (16 : Int32) ≤ s2.1 then
some (s2.1, s2.2)
 else
(Option.bind (am_rd ((s2.2) 1 22) 220 ((((110 : Int32) * a1) + (80 : Int32)) + s2.1)) fun v3 =>
(Option.bind (am_wr s2.2 1 10 16 s2.1 v3) fun M4 =>
rec1 ((s2.1 + 1), M4))))
def fX2_restore_L124 (a1 : Int32) (rec1 : (Int32 × am_M) → Option (Int32 × am_M)) (s2 : (Int32 × am_M)) : Option (Int32 × am_M) :=
(if (10 : Int32) ≤ s2.1 then
some (s2.1, s2.2)
 else
(Option.bind (am_rd ((s2.2) 1 22) 220 ((((110 : Int32) * a1) + (60 : Int32)) + s2.1)) fun v3 =>
(Option.bind (am_wr s2.2 1 6 10 s2.1 v3) fun M4 =>
(Option.bind (am_rd (M4 1 22) 220 ((((110 : Int32) * a1) + (70 : Int32)) + s2.1)) fun v5 =>
(Option.bind (am_wr M4 1 7 10 s2.1 v5) fun M6 =>
rec1 ((s2.1 + 1), M6))))))
def fX2_restore_L59 (a1 : Int32) (rec1 : (Int32 × am_M) → Option (Int32 × am_M)) (s2 : (Int32 × am_M)) : Option (Int32 × am_M) :=
(if (8 : Int32) ≤ s2.1 then
some (s2.1, s2.2)
 else
(Option.bind (am_rd ((s2.2) 1 22) 220 ((((110 : Int32) * a1) + (36 : Int32)) + s2.1)) fun v3 =>
(Option.bind (am_wr s2.2 1 3 8 s2.1 v3) fun M4 =>
(Option.bind (am_rd (M4 1 22) 220 ((((110 : Int32) * a1) + (44 : Int32)) + s2.1)) fun v5 =>
(Option.bind (am_wr M4 1 4 8 s2.1 v5) fun M6 =>
(Option.bind (am_rd (M6 1 22) 220 ((((110 : Int32) * a1) + (52 : Int32)) + s2.1)) fun v7 =>
(Option.bind (am_wr M6 1 5 8 s2.1 v7) fun M8 =>
rec1 ((s2.1 + 1), M8))))))))
def fX2_restore_L31 (a1 : Int32) (rec1 : (Int32 × am_M) → Option (Int32 × am_M)) (s2 : (Int32 × am_M)) : Option (Int32 × am_M) :=
(if (36 : Int32) ≤ s2.1 then
some (s2.1, s2.2)
 else
(Option.bind (am_rd ((s2.2) 1 22) 220 (((110 : Int32) * a1) + s2.1)) fun v3 =>
(Option.bind (am_wr s2.2 1 0 36 s2.1 v3) fun M4 =>
rec1 ((s2.1 + 1), M4))))
def fX2_restore (M : am_M) (a1 : Int32) : Option (Int32 × am_M) :=
(if (fX2_in a1 (0 : Int32) (1 : Int32)) = 0 then
some ((-2 : Int32), M)
 else
(Option.bind (am_rd (M 1 23) 2 a1) fun v1 =>
(if v1 = 0 then
some ((-3 : Int32), M)
 else
(Option.bind (am_it (fX2_restore_L31 a1) am_fuel ((0 : Int32), M)) fun (s6 : (Int32 × am_M)) =>
(Option.bind (am_it (fX2_restore_L59 a1) am_fuel ((0 : Int32), s6.2)) fun (s13 : (Int32 × am_M)) =>
(Option.bind (am_it (fX2_restore_L124 a1) am_fuel ((0 : Int32), s13.2)) fun (s24 : (Int32 × am_M)) =>
(Option.bind (am_it (fX2_restore_L172 a1) am_fuel ((0 : Int32), s24.2)) fun (s33 : (Int32 × am_M)) =>
(Option.bind (am_rd ((s33.2) 1 22) 220 (((110 : Int32) * a1) + (100 : Int32))) fun v36 =>
(Option.bind (am_rd ((am_put s33.2 1 2 v36) 1 22) 220 (((110 : Int32) * a1) + (101 : Int32))) fun v37 =>
(Option.bind (am_rd ((am_put (am_put s33.2 1 2 v36) 1 8 v37) 1 22) 220 (((110 : Int32) * a1) + (102 : Int32))) fun v38 =>
some ((1 : Int32), (am_put (am_put (am_put s33.2 1 2 v36) 1 8 v37) 1 9 v38))))))))))))
set_option maxHeartbeats 4000000 in
theorem kX2_restore (G : am_G) (M : am_M) (a1 : Int32) : am_C G 2 mX2_restore [am_r 1 0, am_i a1] M (fun r => (some (am_i r.1), r.2)) (fX2_restore M a1) := by
  refine am_met (nL := 4) (ls0 := [some (am_r 1 0), some (am_i a1), none, none]) (by decide) rfl (Nat.le_of_ble_eq_true rfl) (And.intro rfl (And.intro rfl trivial)) ?_
  unfold fX2_restore
  refine am_iload_n dX2_restore_0 rfl rfl ?_
  refine am_iconst dX2_restore_1 ic_0 ?_
  refine am_iconst dX2_restore_2 ic_1 ?_
  refine am_cST lc_X2_59 (kX2_in G M a1 (0 : Int32) (1 : Int32)) rfl rfl rfl rfl rfl dX2_restore_3 ?_
  refine am_if_ne (tgt := 12) dX2_restore_6 rfl ?_ ?_
  · refine am_bipush dX2_restore_9 bp_m2 ?_
    exact am_iret dX2_restore_11 rfl rfl
  · refine am_aload_n dX2_restore_12 rfl rfl ?_
    refine am_getA lf_X2_56 rfl rfl dX2_restore_13 ?_
    refine am_iload_n dX2_restore_16 rfl rfl ?_
    refine am_zald rfl dX2_restore_17 (fun v1 => ?_)
    refine am_if_ne (tgt := 24) dX2_restore_18 rfl ?_ ?_
    · refine am_bipush dX2_restore_21 bp_m3 ?_
      exact am_iret dX2_restore_23 rfl rfl
    · refine am_bipush dX2_restore_24 bp_110 ?_
      refine am_iload_n dX2_restore_26 rfl rfl ?_
      refine am_imul dX2_restore_27 ?_
      refine am_istore_n [some (am_r 1 0), some (am_i a1), some (am_i ((110 : Int32) * a1)), none] dX2_restore_28 rfl rfl (Nat.le_of_ble_eq_true rfl) rfl ?_
      refine am_iconst dX2_restore_29 ic_0 ?_
      refine am_istore_n [some (am_r 1 0), some (am_i a1), some (am_i ((110 : Int32) * a1)), some (am_i (0 : Int32))] dX2_restore_30 rfl rfl (Nat.le_of_ble_eq_true rfl) rfl ?_
      refine am_join (β := (Int32 × am_M)) 57 (fun s6 => [some (am_r 1 0), none, some (am_i ((110 : Int32) * a1)), none]) (fun _ => []) (fun s6 => s6.2) (fun s6 => ?_) (fun hx5 => ?_)
      · refine am_iconst dX2_restore_57 ic_0 ?_
        refine am_istore_n [some (am_r 1 0), none, some (am_i ((110 : Int32) * a1)), some (am_i (0 : Int32))] dX2_restore_58 rfl rfl (Nat.le_of_ble_eq_true rfl) rfl ?_
        refine am_join (β := (Int32 × am_M)) 122 (fun s13 => [some (am_r 1 0), none, some (am_i ((110 : Int32) * a1)), none]) (fun _ => []) (fun s13 => s13.2) (fun s13 => ?_) (fun hx12 => ?_)
        · refine am_iconst dX2_restore_122 ic_0 ?_
          refine am_istore_n [some (am_r 1 0), none, some (am_i ((110 : Int32) * a1)), some (am_i (0 : Int32))] dX2_restore_123 rfl rfl (Nat.le_of_ble_eq_true rfl) rfl ?_
          refine am_join (β := (Int32 × am_M)) 170 (fun s24 => [some (am_r 1 0), none, some (am_i ((110 : Int32) * a1)), none]) (fun _ => []) (fun s24 => s24.2) (fun s24 => ?_) (fun hx23 => ?_)
          · refine am_iconst dX2_restore_170 ic_0 ?_
            refine am_istore_n [some (am_r 1 0), none, some (am_i ((110 : Int32) * a1)), some (am_i (0 : Int32))] dX2_restore_171 rfl rfl (Nat.le_of_ble_eq_true rfl) rfl ?_
            refine am_join (β := (Int32 × am_M)) 201 (fun s33 => [some (am_r 1 0), none, some (am_i ((110 : Int32) * a1)), none]) (fun _ => []) (fun s33 => s33.2) (fun s33 => ?_) (fun hx32 => ?_)
            · refine am_aload_n dX2_restore_201 rfl rfl ?_
              refine am_aload_n dX2_restore_202 rfl rfl ?_
              refine am_getA lf_X2_53 rfl rfl dX2_restore_203 ?_
              refine am_iload_n dX2_restore_206 rfl rfl ?_
              refine am_bipush dX2_restore_207 bp_100 ?_
              refine am_iadd dX2_restore_209 ?_
              refine am_iald (β := Unit) rfl dX2_restore_210 (fun v36 => ?_)
              refine am_putf lf_X2_63 rfl rfl dX2_restore_211 ?_
              refine am_aload_n dX2_restore_214 rfl rfl ?_
              refine am_aload_n dX2_restore_215 rfl rfl ?_
              refine am_getA lf_X2_53 rfl rfl dX2_restore_216 ?_
              refine am_iload_n dX2_restore_219 rfl rfl ?_
              refine am_bipush dX2_restore_220 bp_101 ?_
              refine am_iadd dX2_restore_222 ?_
              refine am_iald (β := Unit) rfl dX2_restore_223 (fun v37 => ?_)
              refine am_putf lf_X2_79 rfl rfl dX2_restore_224 ?_
              refine am_aload_n dX2_restore_227 rfl rfl ?_
              refine am_aload_n dX2_restore_228 rfl rfl ?_
              refine am_getA lf_X2_53 rfl rfl dX2_restore_229 ?_
              refine am_iload_n dX2_restore_232 rfl rfl ?_
              refine am_bipush dX2_restore_233 bp_102 ?_
              refine am_iadd dX2_restore_235 ?_
              refine am_iald (β := Unit) rfl dX2_restore_236 (fun v38 => ?_)
              refine am_putf lf_X2_160 rfl rfl dX2_restore_237 ?_
              refine am_iconst dX2_restore_240 ic_1 ?_
              exact am_iret dX2_restore_241 rfl rfl
            refine am_loop (σ := (Int32 × am_M)) (ls' := fun s29 => [some (am_r 1 0), none, some (am_i ((110 : Int32) * a1)), some (am_i s29.1)]) (st' := fun _ => []) (M' := fun s29 => s29.2) (fun rec30 hr31 s29 => ?_) _ _
            unfold fX2_restore_L172
            refine am_iload_n dX2_restore_172 rfl rfl ?_
            refine am_bipush dX2_restore_173 bp_16 ?_
            refine am_icmp_geB (tgt := 201) dX2_restore_175 rfl ?_ ?_
            · exact am_dr (hx32 (s29.1, s29.2)) (And.intro rfl (And.intro rfl trivial))
            · refine am_aload_n dX2_restore_178 rfl rfl ?_
              refine am_getA lf_X2_31 rfl rfl dX2_restore_179 ?_
              refine am_iload_n dX2_restore_182 rfl rfl ?_
              refine am_aload_n dX2_restore_183 rfl rfl ?_
              refine am_getA lf_X2_53 rfl rfl dX2_restore_184 ?_
              refine am_iload_n dX2_restore_187 rfl rfl ?_
              refine am_bipush dX2_restore_188 bp_80 ?_
              refine am_iadd dX2_restore_190 ?_
              refine am_iload_n dX2_restore_191 rfl rfl ?_
              refine am_iadd dX2_restore_192 ?_
              refine am_as ?_
              refine am_iald (β := Unit) rfl dX2_restore_193 (fun v34 => ?_)
              refine am_as ?_
              refine am_iast rfl dX2_restore_194 (fun M35 => ?_)
              refine am_iinc [some (am_r 1 0), none, some (am_i ((110 : Int32) * a1)), some (am_i (s29.1 + 1))] dX2_restore_195 rfl ic_1 rfl (Nat.le_of_ble_eq_true rfl) rfl ?_
              refine am_goto (tgt := 172) dX2_restore_198 rfl ?_
              exact hr31 ((s29.1 + 1), M35)
          refine am_loop (σ := (Int32 × am_M)) (ls' := fun s20 => [some (am_r 1 0), none, some (am_i ((110 : Int32) * a1)), some (am_i s20.1)]) (st' := fun _ => []) (M' := fun s20 => s20.2) (fun rec21 hr22 s20 => ?_) _ _
          unfold fX2_restore_L124
          refine am_iload_n dX2_restore_124 rfl rfl ?_
          refine am_bipush dX2_restore_125 bp_10 ?_
          refine am_icmp_geB (tgt := 170) dX2_restore_127 rfl ?_ ?_
          · exact am_dr (hx23 (s20.1, s20.2)) (And.intro rfl (And.intro rfl trivial))
          · refine am_aload_n dX2_restore_130 rfl rfl ?_
            refine am_getA lf_X2_25 rfl rfl dX2_restore_131 ?_
            refine am_iload_n dX2_restore_134 rfl rfl ?_
            refine am_aload_n dX2_restore_135 rfl rfl ?_
            refine am_getA lf_X2_53 rfl rfl dX2_restore_136 ?_
            refine am_iload_n dX2_restore_139 rfl rfl ?_
            refine am_bipush dX2_restore_140 bp_60 ?_
            refine am_iadd dX2_restore_142 ?_
            refine am_iload_n dX2_restore_143 rfl rfl ?_
            refine am_iadd dX2_restore_144 ?_
            refine am_as ?_
            refine am_iald (β := Unit) rfl dX2_restore_145 (fun v25 => ?_)
            refine am_as ?_
            refine am_iast rfl dX2_restore_146 (fun M26 => ?_)
            refine am_aload_n dX2_restore_147 rfl rfl ?_
            refine am_getA lf_X2_28 rfl rfl dX2_restore_148 ?_
            refine am_iload_n dX2_restore_151 rfl rfl ?_
            refine am_aload_n dX2_restore_152 rfl rfl ?_
            refine am_getA lf_X2_53 rfl rfl dX2_restore_153 ?_
            refine am_iload_n dX2_restore_156 rfl rfl ?_
            refine am_bipush dX2_restore_157 bp_70 ?_
            refine am_iadd dX2_restore_159 ?_
            refine am_iload_n dX2_restore_160 rfl rfl ?_
            refine am_iadd dX2_restore_161 ?_
            refine am_as ?_
            refine am_iald (β := Unit) rfl dX2_restore_162 (fun v27 => ?_)
            refine am_as ?_
            refine am_iast rfl dX2_restore_163 (fun M28 => ?_)
            refine am_iinc [some (am_r 1 0), none, some (am_i ((110 : Int32) * a1)), some (am_i (s20.1 + 1))] dX2_restore_164 rfl ic_1 rfl (Nat.le_of_ble_eq_true rfl) rfl ?_
            refine am_goto (tgt := 124) dX2_restore_167 rfl ?_
            exact hr22 ((s20.1 + 1), M28)
        refine am_loop (σ := (Int32 × am_M)) (ls' := fun s9 => [some (am_r 1 0), none, some (am_i ((110 : Int32) * a1)), some (am_i s9.1)]) (st' := fun _ => []) (M' := fun s9 => s9.2) (fun rec10 hr11 s9 => ?_) _ _
        unfold fX2_restore_L59
        refine am_iload_n dX2_restore_59 rfl rfl ?_
        refine am_bipush dX2_restore_60 bp_8 ?_
        refine am_icmp_geB (tgt := 122) dX2_restore_62 rfl ?_ ?_
        · exact am_dr (hx12 (s9.1, s9.2)) (And.intro rfl (And.intro rfl trivial))
        · refine am_aload_n dX2_restore_65 rfl rfl ?_
          refine am_getA lf_X2_16 rfl rfl dX2_restore_66 ?_
          refine am_iload_n dX2_restore_69 rfl rfl ?_
          refine am_aload_n dX2_restore_70 rfl rfl ?_
          refine am_getA lf_X2_53 rfl rfl dX2_restore_71 ?_
          refine am_iload_n dX2_restore_74 rfl rfl ?_
          refine am_bipush dX2_restore_75 bp_36 ?_
          refine am_iadd dX2_restore_77 ?_
          refine am_iload_n dX2_restore_78 rfl rfl ?_
          refine am_iadd dX2_restore_79 ?_
          refine am_as ?_
          refine am_iald (β := Unit) rfl dX2_restore_80 (fun v14 => ?_)
          refine am_as ?_
          refine am_iast rfl dX2_restore_81 (fun M15 => ?_)
          refine am_aload_n dX2_restore_82 rfl rfl ?_
          refine am_getA lf_X2_19 rfl rfl dX2_restore_83 ?_
          refine am_iload_n dX2_restore_86 rfl rfl ?_
          refine am_aload_n dX2_restore_87 rfl rfl ?_
          refine am_getA lf_X2_53 rfl rfl dX2_restore_88 ?_
          refine am_iload_n dX2_restore_91 rfl rfl ?_
          refine am_bipush dX2_restore_92 bp_44 ?_
          refine am_iadd dX2_restore_94 ?_
          refine am_iload_n dX2_restore_95 rfl rfl ?_
          refine am_iadd dX2_restore_96 ?_
          refine am_as ?_
          refine am_iald (β := Unit) rfl dX2_restore_97 (fun v16 => ?_)
          refine am_as ?_
          refine am_iast rfl dX2_restore_98 (fun M17 => ?_)
          refine am_aload_n dX2_restore_99 rfl rfl ?_
          refine am_getA lf_X2_22 rfl rfl dX2_restore_100 ?_
          refine am_iload_n dX2_restore_103 rfl rfl ?_
          refine am_aload_n dX2_restore_104 rfl rfl ?_
          refine am_getA lf_X2_53 rfl rfl dX2_restore_105 ?_
          refine am_iload_n dX2_restore_108 rfl rfl ?_
          refine am_bipush dX2_restore_109 bp_52 ?_
          refine am_iadd dX2_restore_111 ?_
          refine am_iload_n dX2_restore_112 rfl rfl ?_
          refine am_iadd dX2_restore_113 ?_
          refine am_as ?_
          refine am_iald (β := Unit) rfl dX2_restore_114 (fun v18 => ?_)
          refine am_as ?_
          refine am_iast rfl dX2_restore_115 (fun M19 => ?_)
          refine am_iinc [some (am_r 1 0), none, some (am_i ((110 : Int32) * a1)), some (am_i (s9.1 + 1))] dX2_restore_116 rfl ic_1 rfl (Nat.le_of_ble_eq_true rfl) rfl ?_
          refine am_goto (tgt := 59) dX2_restore_119 rfl ?_
          exact hr11 ((s9.1 + 1), M19)
      refine am_drop (ls' := [some (am_r 1 0), none, some (am_i ((110 : Int32) * a1)), some (am_i (0 : Int32))]) (And.intro rfl (And.intro rfl (And.intro rfl trivial))) ?_
      refine am_loop (σ := (Int32 × am_M)) (ls' := fun s2 => [some (am_r 1 0), none, some (am_i ((110 : Int32) * a1)), some (am_i s2.1)]) (st' := fun _ => []) (M' := fun s2 => s2.2) (fun rec3 hr4 s2 => ?_) _ _
      unfold fX2_restore_L31
      refine am_iload_n dX2_restore_31 rfl rfl ?_
      refine am_bipush dX2_restore_32 bp_36 ?_
      refine am_icmp_geB (tgt := 57) dX2_restore_34 rfl ?_ ?_
      · exact am_dr (hx5 (s2.1, s2.2)) (And.intro rfl (And.intro rfl trivial))
      · refine am_aload_n dX2_restore_37 rfl rfl ?_
        refine am_getA lf_X2_7 rfl rfl dX2_restore_38 ?_
        refine am_iload_n dX2_restore_41 rfl rfl ?_
        refine am_aload_n dX2_restore_42 rfl rfl ?_
        refine am_getA lf_X2_53 rfl rfl dX2_restore_43 ?_
        refine am_iload_n dX2_restore_46 rfl rfl ?_
        refine am_iload_n dX2_restore_47 rfl rfl ?_
        refine am_iadd dX2_restore_48 ?_
        refine am_as ?_
        refine am_iald (β := Unit) rfl dX2_restore_49 (fun v7 => ?_)
        refine am_as ?_
        refine am_iast rfl dX2_restore_50 (fun M8 => ?_)
        refine am_iinc [some (am_r 1 0), none, some (am_i ((110 : Int32) * a1)), some (am_i (s2.1 + 1))] dX2_restore_51 rfl ic_1 rfl (Nat.le_of_ble_eq_true rfl) rfl ?_
        refine am_goto (tgt := 31) dX2_restore_54 rfl ?_
        exact hr4 ((s2.1 + 1), M8)
def fX2_toldVoice (m : Nat → Nat → Int32) (a1 : Int32) (a2 : Int32) : Option Int32 :=
(if (fX2_isThere m a1) = 0 then
some (-2 : Int32)
 else
(if a2 = 0 then
(Option.bind (am_rd (m 3) 8 a1) fun v2 =>
some v2)
 else
(if a2 = 1 then
(Option.bind (am_rd (m 4) 8 a1) fun v4 =>
some v4)
 else
(if a2 = 2 then
(Option.bind (am_rd (m 0) 36 ((8 : Int32) + a1)) fun v6 =>
some v6)
 else
(if a2 = 3 then
(Option.bind (am_rd (m 5) 8 a1) fun v8 =>
some v8)
 else
(if a2 = 4 then
(Option.bind (am_rd (m 0) 36 ((16 : Int32) + a1)) fun v10 =>
some v10)
 else
(if a2 = (5 : Int32) then
(Option.bind (am_rd (m 0) 36 a1) fun v11 =>
some v11)
 else
some (-2 : Int32))))))))
set_option maxHeartbeats 4000000 in
theorem kX2_toldVoice (G : am_G) (M : am_M) (a1 : Int32) (a2 : Int32) : am_C G 3 mX2_toldVoice [am_r 1 0, am_i a1, am_i a2] M (fun r => (some (am_i r), M)) (fX2_toldVoice (M 1) a1 a2) := by
  refine am_met (nL := 3) (ls0 := [some (am_r 1 0), some (am_i a1), some (am_i a2)]) (by decide) rfl (Nat.le_of_ble_eq_true rfl) (And.intro rfl (And.intro rfl (And.intro rfl trivial))) ?_
  unfold fX2_toldVoice
  refine am_aload_n dX2_toldVoice_0 rfl rfl ?_
  refine am_iload_n dX2_toldVoice_1 rfl rfl ?_
  refine am_cVT (as' := [am_i a1]) lc_X2_82 rfl (kX2_isThere G M a1) rfl rfl rfl rfl rfl rfl dX2_toldVoice_2 ?_
  refine am_if_ne (tgt := 11) dX2_toldVoice_5 rfl ?_ ?_
  · refine am_bipush dX2_toldVoice_8 bp_m2 ?_
    exact am_iret dX2_toldVoice_10 rfl rfl
  · refine am_iload_n dX2_toldVoice_11 rfl rfl ?_
    refine am_ite (fun h1 => ?_) (fun h1 => ?_)
    · refine am_swI (tgt := 48) 0 h1 dX2_toldVoice_12 (by decide) (by decide) rfl rfl ?_
      refine am_aload_n dX2_toldVoice_48 rfl rfl ?_
      refine am_getA lf_X2_16 rfl rfl dX2_toldVoice_49 ?_
      refine am_iload_n dX2_toldVoice_52 rfl rfl ?_
      refine am_iald (β := Unit) rfl dX2_toldVoice_53 (fun v2 => ?_)
      exact am_iret dX2_toldVoice_54 rfl rfl
    refine am_ite (fun h3 => ?_) (fun h3 => ?_)
    · refine am_swI (tgt := 55) 1 h3 dX2_toldVoice_12 (by decide) (by decide) rfl rfl ?_
      refine am_aload_n dX2_toldVoice_55 rfl rfl ?_
      refine am_getA lf_X2_19 rfl rfl dX2_toldVoice_56 ?_
      refine am_iload_n dX2_toldVoice_59 rfl rfl ?_
      refine am_iald (β := Unit) rfl dX2_toldVoice_60 (fun v4 => ?_)
      exact am_iret dX2_toldVoice_61 rfl rfl
    refine am_ite (fun h5 => ?_) (fun h5 => ?_)
    · refine am_swI (tgt := 62) 2 h5 dX2_toldVoice_12 (by decide) (by decide) rfl rfl ?_
      refine am_aload_n dX2_toldVoice_62 rfl rfl ?_
      refine am_getA lf_X2_7 rfl rfl dX2_toldVoice_63 ?_
      refine am_bipush dX2_toldVoice_66 bp_8 ?_
      refine am_iload_n dX2_toldVoice_68 rfl rfl ?_
      refine am_iadd dX2_toldVoice_69 ?_
      refine am_iald (β := Unit) rfl dX2_toldVoice_70 (fun v6 => ?_)
      exact am_iret dX2_toldVoice_71 rfl rfl
    refine am_ite (fun h7 => ?_) (fun h7 => ?_)
    · refine am_swI (tgt := 72) 3 h7 dX2_toldVoice_12 (by decide) (by decide) rfl rfl ?_
      refine am_aload_n dX2_toldVoice_72 rfl rfl ?_
      refine am_getA lf_X2_22 rfl rfl dX2_toldVoice_73 ?_
      refine am_iload_n dX2_toldVoice_76 rfl rfl ?_
      refine am_iald (β := Unit) rfl dX2_toldVoice_77 (fun v8 => ?_)
      exact am_iret dX2_toldVoice_78 rfl rfl
    refine am_ite (fun h9 => ?_) (fun h9 => ?_)
    · refine am_swI (tgt := 79) 4 h9 dX2_toldVoice_12 (by decide) (by decide) rfl rfl ?_
      refine am_aload_n dX2_toldVoice_79 rfl rfl ?_
      refine am_getA lf_X2_7 rfl rfl dX2_toldVoice_80 ?_
      refine am_bipush dX2_toldVoice_83 bp_16 ?_
      refine am_iload_n dX2_toldVoice_85 rfl rfl ?_
      refine am_iadd dX2_toldVoice_86 ?_
      refine am_iald (β := Unit) rfl dX2_toldVoice_87 (fun v10 => ?_)
      exact am_iret dX2_toldVoice_88 rfl rfl
    refine am_swO (tgt := 89) dX2_toldVoice_12 (by have h1 := lv_neT (a := 0) h1 (by decide); have h3 := lv_neT (a := 1) h3 (by decide); have h5 := lv_neT (a := 2) h5 (by decide); have h7 := lv_neT (a := 3) h7 (by decide); have h9 := lv_neT (a := 4) h9 (by decide); omega) rfl ?_
    refine am_iload_n dX2_toldVoice_89 rfl rfl ?_
    refine am_iconst dX2_toldVoice_90 ic_5 ?_
    refine am_icmp_ne (tgt := 103) dX2_toldVoice_91 rfl ?_ ?_
    · refine am_aload_n dX2_toldVoice_94 rfl rfl ?_
      refine am_getA lf_X2_7 rfl rfl dX2_toldVoice_95 ?_
      refine am_iload_n dX2_toldVoice_98 rfl rfl ?_
      refine am_iald (β := Unit) rfl dX2_toldVoice_99 (fun v11 => ?_)
      refine am_goto (tgt := 105) dX2_toldVoice_100 rfl ?_
      exact am_iret dX2_toldVoice_105 rfl rfl
    · refine am_bipush dX2_toldVoice_103 bp_m2 ?_
      exact am_iret dX2_toldVoice_105 rfl rfl
def fX2_told (M : am_M) (a1 : Int32) : Option (Int32 × am_M) :=
(if a1 < (100 : Int32) then
(if a1 < (10 : Int32) then
(if a1 = 0 then
some ((M 1 11 0), M)
 else
(if a1 = 1 then
some ((M 1 2 0), M)
 else
(if a1 = 2 then
(Option.bind (fX2_asNow M) fun M4 =>
(Option.bind (fX2_lamps (M4 1)) fun v5 =>
some (v5, M4)))
 else
(if a1 = 3 then
(Option.bind (am_rd (M 1 0) 36 (35 : Int32)) fun v7 =>
some (v7, M))
 else
(if a1 = 4 then
(Option.bind (am_rd (M 1 0) 36 (34 : Int32)) fun v9 =>
some (v9, M))
 else
(if a1 = 5 then
some ((M 1 8 0), M)
 else
(if a1 = (6 : Int32) then
some ((M 1 9 0), M)
 else
some ((-2 : Int32), M))))))))
 else
(Option.bind (fX2_toldVoice (M 1) ((a1 / (10 : Int32)) - (1 : Int32)) (jv_rem a1 (10 : Int32))) fun v11 =>
some (v11, M)))
 else
(if (fX2_isGallery ((a1 / (10 : Int32)) - (10 : Int32))) = 0 then
some ((-2 : Int32), M)
 else
(if (jv_rem a1 (10 : Int32)) ≤ (2 : Int32) then
(if (jv_rem a1 (10 : Int32)) = 0 then
(Option.bind (am_rd (M 1 7) 10 ((a1 / (10 : Int32)) - (10 : Int32))) fun v12 =>
some (v12, M))
 else
(if (jv_rem a1 (10 : Int32)) = (1 : Int32) then
(Option.bind (am_rd (M 1 0) 36 ((24 : Int32) + ((a1 / (10 : Int32)) - (10 : Int32)))) fun v13 =>
some (v13, M))
 else
(Option.bind (am_rd (M 1 6) 10 ((a1 / (10 : Int32)) - (10 : Int32))) fun v14 =>
some (v14, M))))
 else
some ((-2 : Int32), M))))
set_option maxHeartbeats 4000000 in
theorem kX2_told (G : am_G) (M : am_M) (a1 : Int32) : am_C G 7 mX2_told [am_r 1 0, am_i a1] M (fun r => (some (am_i r.1), r.2)) (fX2_told M a1) := by
  refine am_met (nL := 3) (ls0 := [some (am_r 1 0), some (am_i a1), none]) (by decide) rfl (Nat.le_of_ble_eq_true rfl) (And.intro rfl (And.intro rfl trivial)) ?_
  unfold fX2_told
  refine am_iload_n dX2_told_0 rfl rfl ?_
  refine am_bipush dX2_told_1 bp_100 ?_
  refine am_icmp_lt (tgt := 75) dX2_told_3 rfl ?_ ?_
  · refine am_iload_n dX2_told_75 rfl rfl ?_
    refine am_bipush dX2_told_76 bp_10 ?_
    refine am_icmp_lt (tgt := 96) dX2_told_78 rfl ?_ ?_
    · refine am_iload_n dX2_told_96 rfl rfl ?_
      refine am_ite (fun h1 => ?_) (fun h1 => ?_)
      · refine am_swI (tgt := 136) 0 h1 dX2_told_97 (by decide) (by decide) rfl rfl ?_
        refine am_aload_n dX2_told_136 rfl rfl ?_
        refine am_get lf_X2_85 rfl rfl dX2_told_137 ?_
        exact am_iret dX2_told_140 rfl rfl
      refine am_ite (fun h2 => ?_) (fun h2 => ?_)
      · refine am_swI (tgt := 141) 1 h2 dX2_told_97 (by decide) (by decide) rfl rfl ?_
        refine am_aload_n dX2_told_141 rfl rfl ?_
        refine am_get lf_X2_63 rfl rfl dX2_told_142 ?_
        exact am_iret dX2_told_145 rfl rfl
      refine am_ite (fun h3 => ?_) (fun h3 => ?_)
      · refine am_swI (tgt := 146) 2 h3 dX2_told_97 (by decide) (by decide) rfl rfl ?_
        refine am_aload_n dX2_told_146 rfl rfl ?_
        refine am_cVU (as' := []) lc_X2_110 rfl (kX2_asNow G M) rfl rfl rfl rfl rfl rfl dX2_told_147 (fun M4 => ?_)
        refine am_aload_n dX2_told_150 rfl rfl ?_
        refine am_cVI (as' := []) lc_X2_116 rfl (kX2_lamps G M4) rfl rfl rfl rfl rfl rfl dX2_told_151 (fun v5 => ?_)
        exact am_iret dX2_told_154 rfl rfl
      refine am_ite (fun h6 => ?_) (fun h6 => ?_)
      · refine am_swI (tgt := 155) 3 h6 dX2_told_97 (by decide) (by decide) rfl rfl ?_
        refine am_aload_n dX2_told_155 rfl rfl ?_
        refine am_getA lf_X2_7 rfl rfl dX2_told_156 ?_
        refine am_bipush dX2_told_159 bp_35 ?_
        refine am_iald (β := Unit) rfl dX2_told_161 (fun v7 => ?_)
        exact am_iret dX2_told_162 rfl rfl
      refine am_ite (fun h8 => ?_) (fun h8 => ?_)
      · refine am_swI (tgt := 163) 4 h8 dX2_told_97 (by decide) (by decide) rfl rfl ?_
        refine am_aload_n dX2_told_163 rfl rfl ?_
        refine am_getA lf_X2_7 rfl rfl dX2_told_164 ?_
        refine am_bipush dX2_told_167 bp_34 ?_
        refine am_iald (β := Unit) rfl dX2_told_169 (fun v9 => ?_)
        exact am_iret dX2_told_170 rfl rfl
      refine am_ite (fun h10 => ?_) (fun h10 => ?_)
      · refine am_swI (tgt := 171) 5 h10 dX2_told_97 (by decide) (by decide) rfl rfl ?_
        refine am_aload_n dX2_told_171 rfl rfl ?_
        refine am_get lf_X2_79 rfl rfl dX2_told_172 ?_
        exact am_iret dX2_told_175 rfl rfl
      refine am_swO (tgt := 176) dX2_told_97 (by have h1 := lv_neT (a := 0) h1 (by decide); have h2 := lv_neT (a := 1) h2 (by decide); have h3 := lv_neT (a := 2) h3 (by decide); have h6 := lv_neT (a := 3) h6 (by decide); have h8 := lv_neT (a := 4) h8 (by decide); have h10 := lv_neT (a := 5) h10 (by decide); omega) rfl ?_
      refine am_iload_n dX2_told_176 rfl rfl ?_
      refine am_bipush dX2_told_177 bp_6 ?_
      refine am_icmp_ne (tgt := 189) dX2_told_179 rfl ?_ ?_
      · refine am_aload_n dX2_told_182 rfl rfl ?_
        refine am_get lf_X2_160 rfl rfl dX2_told_183 ?_
        refine am_goto (tgt := 191) dX2_told_186 rfl ?_
        exact am_iret dX2_told_191 rfl rfl
      · refine am_bipush dX2_told_189 bp_m2 ?_
        exact am_iret dX2_told_191 rfl rfl
    · refine am_aload_n dX2_told_81 rfl rfl ?_
      refine am_iload_n dX2_told_82 rfl rfl ?_
      refine am_bipush dX2_told_83 bp_10 ?_
      refine am_idiv dX2_told_85 (by decide) ?_
      refine am_iconst dX2_told_86 ic_1 ?_
      refine am_isub dX2_told_87 ?_
      refine am_iload_n dX2_told_88 rfl rfl ?_
      refine am_bipush dX2_told_89 bp_10 ?_
      refine am_irem dX2_told_91 (by decide) ?_
      refine am_cVI (as' := [am_i ((a1 / (10 : Int32)) - (1 : Int32)), am_i (jv_rem a1 (10 : Int32))]) lc_X2_185 rfl (kX2_toldVoice G M ((a1 / (10 : Int32)) - (1 : Int32)) (jv_rem a1 (10 : Int32))) rfl rfl rfl rfl rfl rfl dX2_told_92 (fun v11 => ?_)
      exact am_iret dX2_told_95 rfl rfl
  · refine am_iload_n dX2_told_6 rfl rfl ?_
    refine am_bipush dX2_told_7 bp_10 ?_
    refine am_idiv dX2_told_9 (by decide) ?_
    refine am_bipush dX2_told_10 bp_10 ?_
    refine am_isub dX2_told_12 ?_
    refine am_istore_n [some (am_r 1 0), some (am_i a1), some (am_i ((a1 / (10 : Int32)) - (10 : Int32)))] dX2_told_13 rfl rfl (Nat.le_of_ble_eq_true rfl) rfl ?_
    refine am_iload_n dX2_told_14 rfl rfl ?_
    refine am_cST lc_X2_71 (kX2_isGallery G M ((a1 / (10 : Int32)) - (10 : Int32))) rfl rfl rfl rfl rfl dX2_told_15 ?_
    refine am_if_eq (tgt := 29) dX2_told_18 rfl ?_ ?_
    · refine am_bipush dX2_told_29 bp_m2 ?_
      exact am_iret dX2_told_31 rfl rfl
    · refine am_iload_n dX2_told_21 rfl rfl ?_
      refine am_bipush dX2_told_22 bp_10 ?_
      refine am_irem dX2_told_24 (by decide) ?_
      refine am_iconst dX2_told_25 ic_2 ?_
      refine am_icmp_le (tgt := 32) dX2_told_26 rfl ?_ ?_
      · refine am_iload_n dX2_told_32 rfl rfl ?_
        refine am_bipush dX2_told_33 bp_10 ?_
        refine am_irem dX2_told_35 (by decide) ?_
        refine am_if_ne (tgt := 48) dX2_told_36 rfl ?_ ?_
        · refine am_aload_n dX2_told_39 rfl rfl ?_
          refine am_getA lf_X2_28 rfl rfl dX2_told_40 ?_
          refine am_iload_n dX2_told_43 rfl rfl ?_
          refine am_iald (β := Unit) rfl dX2_told_44 (fun v12 => ?_)
          refine am_goto (tgt := 74) dX2_told_45 rfl ?_
          exact am_iret dX2_told_74 rfl rfl
        · refine am_iload_n dX2_told_48 rfl rfl ?_
          refine am_bipush dX2_told_49 bp_10 ?_
          refine am_irem dX2_told_51 (by decide) ?_
          refine am_iconst dX2_told_52 ic_1 ?_
          refine am_icmp_ne (tgt := 68) dX2_told_53 rfl ?_ ?_
          · refine am_aload_n dX2_told_56 rfl rfl ?_
            refine am_getA lf_X2_7 rfl rfl dX2_told_57 ?_
            refine am_bipush dX2_told_60 bp_24 ?_
            refine am_iload_n dX2_told_62 rfl rfl ?_
            refine am_iadd dX2_told_63 ?_
            refine am_iald (β := Unit) rfl dX2_told_64 (fun v13 => ?_)
            refine am_goto (tgt := 74) dX2_told_65 rfl ?_
            exact am_iret dX2_told_74 rfl rfl
          · refine am_aload_n dX2_told_68 rfl rfl ?_
            refine am_getA lf_X2_25 rfl rfl dX2_told_69 ?_
            refine am_iload_n dX2_told_72 rfl rfl ?_
            refine am_iald (β := Unit) rfl dX2_told_73 (fun v14 => ?_)
            exact am_iret dX2_told_74 rfl rfl
      · refine am_bipush dX2_told_29 bp_m2 ?_
        exact am_iret dX2_told_31 rfl rfl
