/-! THE LAW: its thirty cases, printed by gen/law.py -/
set_option maxRecDepth 100000
theorem lc_L_13 : am_kV "SongLampsLaw" 13 0 mX0_passage 3 := ⟨_, _, _, rfl, lw_V q200 q201 q202 q51 q203, by decide +kernel⟩
theorem lc_L_17 : am_kV "SongLampsLaw" 17 2 mX2_passage 3 := ⟨_, _, _, rfl, lw_V q647 q648 q649 q53 q650, by decide +kernel⟩
theorem lc_L_18 : am_kV "SongLampsLaw" 18 0 mX0_gallery 3 := ⟨_, _, _, rfl, lw_V q220 q221 q222 q51 q223, by decide +kernel⟩
theorem lc_L_21 : am_kV "SongLampsLaw" 21 2 mX2_gallery 3 := ⟨_, _, _, rfl, lw_V q660 q661 q662 q53 q663, by decide +kernel⟩
theorem lc_L_22 : am_kV "SongLampsLaw" 22 0 mX0_voice 5 := ⟨_, _, _, rfl, lw_V q224 q225 q226 q51 q227, by decide +kernel⟩
theorem lc_L_26 : am_kV "SongLampsLaw" 26 2 mX2_voice 5 := ⟨_, _, _, rfl, lw_V q664 q665 q666 q53 q667, by decide +kernel⟩
theorem lc_L_27 : am_kV "SongLampsLaw" 27 0 mX0_breath 2 := ⟨_, _, _, rfl, lw_V q237 q238 q239 q51 q240, by decide +kernel⟩
theorem lc_L_31 : am_kV "SongLampsLaw" 31 2 mX2_breath 2 := ⟨_, _, _, rfl, lw_V q668 q669 q670 q53 q671, by decide +kernel⟩
theorem lc_L_32 : am_kV "SongLampsLaw" 32 0 mX0_leave 1 := ⟨_, _, _, rfl, lw_V q252 q253 q254 q51 q255, by decide +kernel⟩
theorem lc_L_36 : am_kV "SongLampsLaw" 36 2 mX2_leave 1 := ⟨_, _, _, rfl, lw_V q679 q680 q681 q53 q682, by decide +kernel⟩
theorem lc_L_37 : am_kV "SongLampsLaw" 37 0 mX0_say 1 := ⟨_, _, _, rfl, lw_V q256 q257 q258 q51 q259, by decide +kernel⟩
theorem lc_L_40 : am_kV "SongLampsLaw" 40 2 mX2_say 1 := ⟨_, _, _, rfl, lw_V q683 q684 q685 q53 q686, by decide +kernel⟩
theorem lc_L_41 : am_kV "SongLampsLaw" 41 0 mX0_wipe 0 := ⟨_, _, _, rfl, lw_V q262 q263 q264 q51 q265, by decide +kernel⟩
theorem lc_L_45 : am_kV "SongLampsLaw" 45 2 mX2_wipe 0 := ⟨_, _, _, rfl, lw_V q687 q688 q689 q53 q690, by decide +kernel⟩
theorem lc_L_46 : am_kV "SongLampsLaw" 46 0 mX0_fault 0 := ⟨_, _, _, rfl, lw_V q266 q267 q268 q51 q269, by decide +kernel⟩
theorem lc_L_49 : am_kV "SongLampsLaw" 49 2 mX2_fault 0 := ⟨_, _, _, rfl, lw_V q691 q692 q693 q53 q694, by decide +kernel⟩
theorem lc_L_50 : am_kV "SongLampsLaw" 50 0 mX0_judge 1 := ⟨_, _, _, rfl, lw_V q286 q287 q288 q51 q289, by decide +kernel⟩
theorem lc_L_53 : am_kV "SongLampsLaw" 53 2 mX2_judge 1 := ⟨_, _, _, rfl, lw_V q699 q700 q701 q53 q702, by decide +kernel⟩
theorem lc_L_54 : am_kV "SongLampsLaw" 54 0 mX0_done 0 := ⟨_, _, _, rfl, lw_V q376 q377 q378 q51 q379, by decide +kernel⟩
theorem lc_L_57 : am_kV "SongLampsLaw" 57 2 mX2_done 0 := ⟨_, _, _, rfl, lw_V q747 q748 q749 q53 q750, by decide +kernel⟩
theorem lc_L_58 : am_kV "SongLampsLaw" 58 0 mX0_behind 2 := ⟨_, _, _, rfl, lw_V q384 q385 q386 q51 q387, by decide +kernel⟩
theorem lc_L_61 : am_kV "SongLampsLaw" 61 2 mX2_behind 2 := ⟨_, _, _, rfl, lw_V q755 q756 q757 q53 q758, by decide +kernel⟩
theorem lc_L_62 : am_kV "SongLampsLaw" 62 0 mX0_seam 2 := ⟨_, _, _, rfl, lw_V q389 q390 q391 q51 q392, by decide +kernel⟩
theorem lc_L_65 : am_kV "SongLampsLaw" 65 2 mX2_seam 2 := ⟨_, _, _, rfl, lw_V q759 q760 q761 q53 q762, by decide +kernel⟩
theorem lc_L_66 : am_kV "SongLampsLaw" 66 0 mX0_then 1 := ⟨_, _, _, rfl, lw_V q394 q395 q396 q51 q397, by decide +kernel⟩
theorem lc_L_69 : am_kV "SongLampsLaw" 69 2 mX2_then 1 := ⟨_, _, _, rfl, lw_V q763 q764 q765 q53 q766, by decide +kernel⟩
theorem lc_L_70 : am_kV "SongLampsLaw" 70 0 mX0_light 1 := ⟨_, _, _, rfl, lw_V q402 q403 q404 q51 q405, by decide +kernel⟩
theorem lc_L_73 : am_kV "SongLampsLaw" 73 2 mX2_light 1 := ⟨_, _, _, rfl, lw_V q771 q772 q773 q53 q774, by decide +kernel⟩
theorem lc_L_74 : am_kV "SongLampsLaw" 74 0 mX0_shakes 0 := ⟨_, _, _, rfl, lw_V q406 q407 q408 q51 q409, by decide +kernel⟩
theorem lc_L_77 : am_kV "SongLampsLaw" 77 2 mX2_shakes 0 := ⟨_, _, _, rfl, lw_V q775 q776 q777 q53 q778, by decide +kernel⟩
theorem lc_L_78 : am_kV "SongLampsLaw" 78 0 mX0_way 3 := ⟨_, _, _, rfl, lw_V q411 q412 q413 q51 q414, by decide +kernel⟩
theorem lc_L_82 : am_kV "SongLampsLaw" 82 2 mX2_way 3 := ⟨_, _, _, rfl, lw_V q779 q780 q781 q53 q782, by decide +kernel⟩
theorem lc_L_83 : am_kV "SongLampsLaw" 83 0 mX0_fewest 2 := ⟨_, _, _, rfl, lw_V q424 q425 q426 q51 q427, by decide +kernel⟩
theorem lc_L_86 : am_kV "SongLampsLaw" 86 2 mX2_fewest 2 := ⟨_, _, _, rfl, lw_V q788 q789 q790 q53 q791, by decide +kernel⟩
theorem lc_L_87 : am_kV "SongLampsLaw" 87 0 mX0_keep 1 := ⟨_, _, _, rfl, lw_V q433 q434 q435 q51 q436, by decide +kernel⟩
theorem lc_L_90 : am_kV "SongLampsLaw" 90 2 mX2_keep 1 := ⟨_, _, _, rfl, lw_V q792 q793 q794 q53 q795, by decide +kernel⟩
theorem lc_L_91 : am_kV "SongLampsLaw" 91 0 mX0_cut 0 := ⟨_, _, _, rfl, lw_V q446 q447 q448 q51 q449, by decide +kernel⟩
theorem lc_L_94 : am_kV "SongLampsLaw" 94 2 mX2_cut 0 := ⟨_, _, _, rfl, lw_V q796 q797 q798 q53 q799, by decide +kernel⟩
theorem lc_L_95 : am_kV "SongLampsLaw" 95 0 mX0_hold 3 := ⟨_, _, _, rfl, lw_V q450 q451 q452 q51 q453, by decide +kernel⟩
theorem lc_L_98 : am_kV "SongLampsLaw" 98 2 mX2_hold 3 := ⟨_, _, _, rfl, lw_V q800 q801 q802 q53 q803, by decide +kernel⟩
theorem lc_L_99 : am_kV "SongLampsLaw" 99 0 mX0_round 4 := ⟨_, _, _, rfl, lw_V q474 q475 q476 q51 q477, by decide +kernel⟩
theorem lc_L_103 : am_kV "SongLampsLaw" 103 2 mX2_round 4 := ⟨_, _, _, rfl, lw_V q814 q815 q816 q53 q817, by decide +kernel⟩
theorem lc_L_104 : am_kV "SongLampsLaw" 104 0 mX0_heard 2 := ⟨_, _, _, rfl, lw_V q478 q479 q480 q51 q481, by decide +kernel⟩
theorem lc_L_107 : am_kV "SongLampsLaw" 107 2 mX2_heard 2 := ⟨_, _, _, rfl, lw_V q818 q819 q820 q53 q821, by decide +kernel⟩
theorem lc_L_108 : am_kV "SongLampsLaw" 108 0 mX0_forget 0 := ⟨_, _, _, rfl, lw_V q483 q484 q485 q51 q486, by decide +kernel⟩
theorem lc_L_111 : am_kV "SongLampsLaw" 111 2 mX2_forget 0 := ⟨_, _, _, rfl, lw_V q822 q823 q824 q53 q825, by decide +kernel⟩
theorem lc_L_112 : am_kV "SongLampsLaw" 112 0 mX0_losts 1 := ⟨_, _, _, rfl, lw_V q487 q488 q489 q51 q490, by decide +kernel⟩
theorem lc_L_115 : am_kV "SongLampsLaw" 115 2 mX2_losts 1 := ⟨_, _, _, rfl, lw_V q826 q827 q828 q53 q829, by decide +kernel⟩
theorem lc_L_116 : am_kV "SongLampsLaw" 116 0 mX0_listen 1 := ⟨_, _, _, rfl, lw_V q503 q504 q505 q51 q506, by decide +kernel⟩
theorem lc_L_119 : am_kV "SongLampsLaw" 119 2 mX2_listen 1 := ⟨_, _, _, rfl, lw_V q842 q843 q844 q53 q845, by decide +kernel⟩
theorem lc_L_120 : am_kV "SongLampsLaw" 120 0 mX0_cold 5 := ⟨_, _, _, rfl, lw_V q511 q512 q513 q51 q514, by decide +kernel⟩
theorem lc_L_124 : am_kV "SongLampsLaw" 124 2 mX2_cold 5 := ⟨_, _, _, rfl, lw_V q846 q847 q848 q53 q849, by decide +kernel⟩
theorem lc_L_125 : am_kV "SongLampsLaw" 125 0 mX0_year 3 := ⟨_, _, _, rfl, lw_V q529 q530 q531 q51 q532, by decide +kernel⟩
theorem lc_L_128 : am_kV "SongLampsLaw" 128 2 mX2_year 3 := ⟨_, _, _, rfl, lw_V q857 q858 q859 q53 q860, by decide +kernel⟩
theorem lc_L_129 : am_kV "SongLampsLaw" 129 0 mX0_image 1 := ⟨_, _, _, rfl, lw_V q540 q541 q542 q51 q543, by decide +kernel⟩
theorem lc_L_132 : am_kV "SongLampsLaw" 132 2 mX2_image 1 := ⟨_, _, _, rfl, lw_V q862 q863 q864 q53 q865, by decide +kernel⟩
theorem lc_L_133 : am_kV "SongLampsLaw" 133 0 mX0_restore 1 := ⟨_, _, _, rfl, lw_V q544 q545 q546 q51 q547, by decide +kernel⟩
theorem lc_L_136 : am_kV "SongLampsLaw" 136 2 mX2_restore 1 := ⟨_, _, _, rfl, lw_V q866 q867 q868 q53 q869, by decide +kernel⟩
theorem lc_L_137 : am_kV "SongLampsLaw" 137 0 mX0_told 1 := ⟨_, _, _, rfl, lw_V q548 q549 q550 q51 q551, by decide +kernel⟩
theorem lc_L_140 : am_kV "SongLampsLaw" 140 2 mX2_told 1 := ⟨_, _, _, rfl, lw_V q870 q871 q872 q53 q873, by decide +kernel⟩
/-- the system's image, called by the law -/
theorem lw_img {κ : LX} {Ln : Nat} {xs : Nat → Int32} {G : am_G} {M : am_M} {i cells slots pc : Nat} {a : Int32} (hk : LK κ Ln xs G) (d : decode cL_law pc = .ok (.invokevirtual 129, 3)) (hc : cells ≤ 599000) (hs : slots ≤ 7300000) (kk : ∀ (r : Int32) (u : (Nat → Nat → Nat) × (Nat → Bool) × am_M), imP G M a r u → LK κ Ln xs (G.1, G.2.1, u.1, u.2.1, G.2.2.2.2.1, G.2.2.2.2.2) → LW κ (G.1, G.2.1, u.1, u.2.1, G.2.2.2.2.1, G.2.2.2.2.2) u.2.2 i (cells + 13) (slots + 121) (pc + 3) [.int r]) : LW κ G M i cells slots pc [.int a, .ref (G.2.2.1 0 0)] := fun H locs ls hP hD hS hl => by
  have hmem : (0, 0) ∈ am_ids G.2.2.2.1 := am_ids_of (hk.2.2.2.2 0 (by omega)) (by omega) List.mem_cons_self
  obtain ⟨q0, hq0⟩ := am_place hmem
  have he := am_ws_at (M := M) hq0
  have cx := LK_iC hk
  have hts := cx.2.2.2.2.2.2
  obtain ⟨C, T, N, hcl, hG, hdsc⟩ := lc_L_129
  have hM := kX0_image G M a hmem
  rw [hk.2.2.1] at hM
  refine va_calli (A0 := am_A G) (A1 := am_A G) (va_runV (As := [.int a]) (b := G.2.2.1 0 0) (nL := 4) (n := 1) (rest := []) ⟨cx.1, cx.2.1, cx.2.2.2.2.1, cx.2.2.2.2.2.1, hts⟩ hM (cwV 1 hts hG rfl rfl rfl hdsc ⟨Nat.le_of_ble_eq_true rfl, Nat.le_of_ble_eq_true rfl⟩) ⟨am_blind, va_recv hk.2.1.1 hP hcl he, fun U hU hW => ⟨rfl, by rw [hU]; exact hP, hD, am_Kn_warm hW hk.2.1⟩⟩ rfl rfl hl.1 rfl (lv_room (Nat.le_of_ble_eq_true rfl)) d ⟨by show cells + 13 ≤ 600000; omega, by show slots + 121 ≤ 7302250; omega⟩) hS (fun x _ h => h) (fun x h => h) ?_
  intro r u t H1 locs1 ht _ hp hB hz hkp hS1
  have hL : ∀ j, j < 4 → u.2.1 j = true := fun j hj => by rw [hp.2.1 j hj]; exact hk.2.2.2.2 j hj
  have hk2 : LK κ Ln xs (G.1, G.2.1, u.1, u.2.1, G.2.2.2.2.1, G.2.2.2.2.2) := ⟨hk.1, KN_to (KN_of hk.2.1) (fun _ => ⟨hL 2 (by omega), hL 3 (by omega)⟩), hk.2.2.1, hk.2.2.2.1, hL⟩
  refine kk r u hp hk2 H1 locs1 ls (by rw [← ht]; have := hB.1; rw [← hk.2.2.1] at this; exact this) (by have := hB.2.1; rw [← hk.2.2.1] at this; exact this) hS1 ?_
  show lv_has ls 4 [(3, .int (nI i)), (2, .ref (u.1 1 0)), (1, .ref (u.1 0 0)), (0, .ref κ.2.2.2.2.2.1)]
  rw [hp.1 1 (by omega), hp.1 0 (by omega)]
  exact hl
theorem lcase_0 {κ : LX} {Ln : Nat} {xs : Nat → Int32} {G : am_G} {M : am_M} {i cells slots : Nat} (hk : LK κ Ln xs G) (hI : Inv G.2.2.2.1 M) (hi : i + 6 ≤ Ln ∧ Ln ≤ 384) (hc : cells ≤ 599000) (hs : slots ≤ 7300000) (hbrk : ∀ (G' : am_G) (M' : am_M), LK κ Ln xs G' → Inv G'.2.2.2.1 M' → LW κ G' M' i (cells + 13) (slots + 121) 1091 []) : LW κ G M i cells slots 168 [] := by
  obtain ⟨r, M1, M2, e1, e2, hI2⟩ := op_passage hI (xs (i + 1)) (xs (i + 2)) (bo (xs (i + 3)))
  refine lw_al1 hk dL_law_168 ?_
  refine lw_arg hk 1 ic_1 ⟨by omega, hi.2⟩ dL_law_169 dL_law_170 dL_law_171 dL_law_172 dL_law_173 ?_
  refine lw_arg hk 2 ic_2 ⟨by omega, hi.2⟩ dL_law_174 dL_law_175 dL_law_176 dL_law_177 dL_law_178 ?_
  refine lw_arg hk 3 ic_3 ⟨by omega, hi.2⟩ dL_law_179 dL_law_180 dL_law_181 dL_law_182 dL_law_183 ?_
  refine lw_ne0 hk dL_law_184 dL_law_187 dL_law_188 dL_law_191 ?_
  refine lw_cl 0 hk lc_L_13 (by omega) (kX0_passage G M (xs (i + 1)) (xs (i + 2)) (bo (xs (i + 3)))) e1 rfl rfl rfl rfl (rest := []) rfl (Nat.le_of_ble_eq_true rfl) dL_law_192 (by omega) (by omega) ?_
  refine lw_al2 hk dL_law_195 ?_
  refine lw_arg hk 1 ic_1 ⟨by omega, hi.2⟩ dL_law_196 dL_law_197 dL_law_198 dL_law_199 dL_law_200 ?_
  refine lw_arg hk 2 ic_2 ⟨by omega, hi.2⟩ dL_law_201 dL_law_202 dL_law_203 dL_law_204 dL_law_205 ?_
  refine lw_arg hk 3 ic_3 ⟨by omega, hi.2⟩ dL_law_206 dL_law_207 dL_law_208 dL_law_209 dL_law_210 ?_
  refine lw_ne0 hk dL_law_211 dL_law_214 dL_law_215 dL_law_218 ?_
  refine lw_cl 1 hk lc_L_17 (by omega) (kX2_passage G M1 (xs (i + 1)) (xs (i + 2)) (bo (xs (i + 3)))) e2 rfl rfl rfl rfl (rest := [.int r]) rfl (Nat.le_of_ble_eq_true rfl) dL_law_219 (by omega) (by omega) ?_
  refine lw_eq hk (r := r) dL_law_222 rfl ?_
  exact LW_wd (hbrk G M2 hk hI2)
theorem lcase_1 {κ : LX} {Ln : Nat} {xs : Nat → Int32} {G : am_G} {M : am_M} {i cells slots : Nat} (hk : LK κ Ln xs G) (hI : Inv G.2.2.2.1 M) (hi : i + 6 ≤ Ln ∧ Ln ≤ 384) (hc : cells ≤ 599000) (hs : slots ≤ 7300000) (hbrk : ∀ (G' : am_G) (M' : am_M), LK κ Ln xs G' → Inv G'.2.2.2.1 M' → LW κ G' M' i (cells + 13) (slots + 121) 1091 []) : LW κ G M i cells slots 227 [] := by
  obtain ⟨r, M1, M2, e1, e2, hI2⟩ := op_gallery hI (xs (i + 1)) (xs (i + 2)) (bo (xs (i + 3)))
  refine lw_al1 hk dL_law_227 ?_
  refine lw_arg hk 1 ic_1 ⟨by omega, hi.2⟩ dL_law_228 dL_law_229 dL_law_230 dL_law_231 dL_law_232 ?_
  refine lw_arg hk 2 ic_2 ⟨by omega, hi.2⟩ dL_law_233 dL_law_234 dL_law_235 dL_law_236 dL_law_237 ?_
  refine lw_arg hk 3 ic_3 ⟨by omega, hi.2⟩ dL_law_238 dL_law_239 dL_law_240 dL_law_241 dL_law_242 ?_
  refine lw_ne0 hk dL_law_243 dL_law_246 dL_law_247 dL_law_250 ?_
  refine lw_cl 0 hk lc_L_18 (by omega) (kX0_gallery G M (xs (i + 1)) (xs (i + 2)) (bo (xs (i + 3)))) e1 rfl rfl rfl rfl (rest := []) rfl (Nat.le_of_ble_eq_true rfl) dL_law_251 (by omega) (by omega) ?_
  refine lw_al2 hk dL_law_254 ?_
  refine lw_arg hk 1 ic_1 ⟨by omega, hi.2⟩ dL_law_255 dL_law_256 dL_law_257 dL_law_258 dL_law_259 ?_
  refine lw_arg hk 2 ic_2 ⟨by omega, hi.2⟩ dL_law_260 dL_law_261 dL_law_262 dL_law_263 dL_law_264 ?_
  refine lw_arg hk 3 ic_3 ⟨by omega, hi.2⟩ dL_law_265 dL_law_266 dL_law_267 dL_law_268 dL_law_269 ?_
  refine lw_ne0 hk dL_law_270 dL_law_273 dL_law_274 dL_law_277 ?_
  refine lw_cl 1 hk lc_L_21 (by omega) (kX2_gallery G M1 (xs (i + 1)) (xs (i + 2)) (bo (xs (i + 3)))) e2 rfl rfl rfl rfl (rest := [.int r]) rfl (Nat.le_of_ble_eq_true rfl) dL_law_278 (by omega) (by omega) ?_
  refine lw_eq hk (r := r) dL_law_281 rfl ?_
  exact LW_wd (hbrk G M2 hk hI2)
theorem lcase_2 {κ : LX} {Ln : Nat} {xs : Nat → Int32} {G : am_G} {M : am_M} {i cells slots : Nat} (hk : LK κ Ln xs G) (hI : Inv G.2.2.2.1 M) (hi : i + 6 ≤ Ln ∧ Ln ≤ 384) (hc : cells ≤ 599000) (hs : slots ≤ 7300000) (hbrk : ∀ (G' : am_G) (M' : am_M), LK κ Ln xs G' → Inv G'.2.2.2.1 M' → LW κ G' M' i (cells + 13) (slots + 121) 1091 []) : LW κ G M i cells slots 286 [] := by
  obtain ⟨r, M1, M2, e1, e2, hI2⟩ := op_voice hI (xs (i + 1)) (xs (i + 2)) (xs (i + 3)) (xs (i + 4)) (xs (i + 5))
  refine lw_al1 hk dL_law_286 ?_
  refine lw_arg hk 1 ic_1 ⟨by omega, hi.2⟩ dL_law_287 dL_law_288 dL_law_289 dL_law_290 dL_law_291 ?_
  refine lw_arg hk 2 ic_2 ⟨by omega, hi.2⟩ dL_law_292 dL_law_293 dL_law_294 dL_law_295 dL_law_296 ?_
  refine lw_arg hk 3 ic_3 ⟨by omega, hi.2⟩ dL_law_297 dL_law_298 dL_law_299 dL_law_300 dL_law_301 ?_
  refine lw_arg hk 4 ic_4 ⟨by omega, hi.2⟩ dL_law_302 dL_law_303 dL_law_304 dL_law_305 dL_law_306 ?_
  refine lw_arg hk 5 ic_5 ⟨by omega, hi.2⟩ dL_law_307 dL_law_308 dL_law_309 dL_law_310 dL_law_311 ?_
  refine lw_cl 0 hk lc_L_22 (by omega) (kX0_voice G M (xs (i + 1)) (xs (i + 2)) (xs (i + 3)) (xs (i + 4)) (xs (i + 5))) e1 rfl rfl rfl rfl (rest := []) rfl (Nat.le_of_ble_eq_true rfl) dL_law_312 (by omega) (by omega) ?_
  refine lw_al2 hk dL_law_315 ?_
  refine lw_arg hk 1 ic_1 ⟨by omega, hi.2⟩ dL_law_316 dL_law_317 dL_law_318 dL_law_319 dL_law_320 ?_
  refine lw_arg hk 2 ic_2 ⟨by omega, hi.2⟩ dL_law_321 dL_law_322 dL_law_323 dL_law_324 dL_law_325 ?_
  refine lw_arg hk 3 ic_3 ⟨by omega, hi.2⟩ dL_law_326 dL_law_327 dL_law_328 dL_law_329 dL_law_330 ?_
  refine lw_arg hk 4 ic_4 ⟨by omega, hi.2⟩ dL_law_331 dL_law_332 dL_law_333 dL_law_334 dL_law_335 ?_
  refine lw_arg hk 5 ic_5 ⟨by omega, hi.2⟩ dL_law_336 dL_law_337 dL_law_338 dL_law_339 dL_law_340 ?_
  refine lw_cl 1 hk lc_L_26 (by omega) (kX2_voice G M1 (xs (i + 1)) (xs (i + 2)) (xs (i + 3)) (xs (i + 4)) (xs (i + 5))) e2 rfl rfl rfl rfl (rest := [.int r]) rfl (Nat.le_of_ble_eq_true rfl) dL_law_341 (by omega) (by omega) ?_
  refine lw_eq hk (r := r) dL_law_344 rfl ?_
  exact LW_wd (hbrk G M2 hk hI2)
theorem lcase_3 {κ : LX} {Ln : Nat} {xs : Nat → Int32} {G : am_G} {M : am_M} {i cells slots : Nat} (hk : LK κ Ln xs G) (hI : Inv G.2.2.2.1 M) (hi : i + 6 ≤ Ln ∧ Ln ≤ 384) (hc : cells ≤ 599000) (hs : slots ≤ 7300000) (hbrk : ∀ (G' : am_G) (M' : am_M), LK κ Ln xs G' → Inv G'.2.2.2.1 M' → LW κ G' M' i (cells + 13) (slots + 121) 1091 []) : LW κ G M i cells slots 349 [] := by
  obtain ⟨r, M1, M2, e1, e2, hI2⟩ := op_breath hI (xs (i + 1)) (xs (i + 2))
  refine lw_al1 hk dL_law_349 ?_
  refine lw_arg hk 1 ic_1 ⟨by omega, hi.2⟩ dL_law_350 dL_law_351 dL_law_352 dL_law_353 dL_law_354 ?_
  refine lw_arg hk 2 ic_2 ⟨by omega, hi.2⟩ dL_law_355 dL_law_356 dL_law_357 dL_law_358 dL_law_359 ?_
  refine lw_cl 0 hk lc_L_27 (by omega) (kX0_breath G M (xs (i + 1)) (xs (i + 2))) e1 rfl rfl rfl rfl (rest := []) rfl (Nat.le_of_ble_eq_true rfl) dL_law_360 (by omega) (by omega) ?_
  refine lw_al2 hk dL_law_363 ?_
  refine lw_arg hk 1 ic_1 ⟨by omega, hi.2⟩ dL_law_364 dL_law_365 dL_law_366 dL_law_367 dL_law_368 ?_
  refine lw_arg hk 2 ic_2 ⟨by omega, hi.2⟩ dL_law_369 dL_law_370 dL_law_371 dL_law_372 dL_law_373 ?_
  refine lw_cl 1 hk lc_L_31 (by omega) (kX2_breath G M1 (xs (i + 1)) (xs (i + 2))) e2 rfl rfl rfl rfl (rest := [.int r]) rfl (Nat.le_of_ble_eq_true rfl) dL_law_374 (by omega) (by omega) ?_
  refine lw_eq hk (r := r) dL_law_377 rfl ?_
  exact LW_wd (hbrk G M2 hk hI2)
theorem lcase_4 {κ : LX} {Ln : Nat} {xs : Nat → Int32} {G : am_G} {M : am_M} {i cells slots : Nat} (hk : LK κ Ln xs G) (hI : Inv G.2.2.2.1 M) (hi : i + 6 ≤ Ln ∧ Ln ≤ 384) (hc : cells ≤ 599000) (hs : slots ≤ 7300000) (hbrk : ∀ (G' : am_G) (M' : am_M), LK κ Ln xs G' → Inv G'.2.2.2.1 M' → LW κ G' M' i (cells + 13) (slots + 121) 1091 []) : LW κ G M i cells slots 382 [] := by
  obtain ⟨r, M1, M2, e1, e2, hI2⟩ := op_leave hI (xs (i + 1))
  refine lw_al1 hk dL_law_382 ?_
  refine lw_arg hk 1 ic_1 ⟨by omega, hi.2⟩ dL_law_383 dL_law_384 dL_law_385 dL_law_386 dL_law_387 ?_
  refine lw_cl 0 hk lc_L_32 (by omega) (kX0_leave G M (xs (i + 1))) e1 rfl rfl rfl rfl (rest := []) rfl (Nat.le_of_ble_eq_true rfl) dL_law_388 (by omega) (by omega) ?_
  refine lw_al2 hk dL_law_391 ?_
  refine lw_arg hk 1 ic_1 ⟨by omega, hi.2⟩ dL_law_392 dL_law_393 dL_law_394 dL_law_395 dL_law_396 ?_
  refine lw_cl 1 hk lc_L_36 (by omega) (kX2_leave G M1 (xs (i + 1))) e2 rfl rfl rfl rfl (rest := [.int r]) rfl (Nat.le_of_ble_eq_true rfl) dL_law_397 (by omega) (by omega) ?_
  refine lw_eq hk (r := r) dL_law_400 rfl ?_
  exact LW_wd (hbrk G M2 hk hI2)
theorem lcase_5 {κ : LX} {Ln : Nat} {xs : Nat → Int32} {G : am_G} {M : am_M} {i cells slots : Nat} (hk : LK κ Ln xs G) (hI : Inv G.2.2.2.1 M) (hi : i + 6 ≤ Ln ∧ Ln ≤ 384) (hc : cells ≤ 599000) (hs : slots ≤ 7300000) (hbrk : ∀ (G' : am_G) (M' : am_M), LK κ Ln xs G' → Inv G'.2.2.2.1 M' → LW κ G' M' i (cells + 13) (slots + 121) 1091 []) : LW κ G M i cells slots 405 [] := by
  obtain ⟨r, M1, M2, e1, e2, hI2⟩ := op_say hI (xs (i + 1))
  refine lw_al1 hk dL_law_405 ?_
  refine lw_arg hk 1 ic_1 ⟨by omega, hi.2⟩ dL_law_406 dL_law_407 dL_law_408 dL_law_409 dL_law_410 ?_
  refine lw_cl 0 hk lc_L_37 (by omega) (kX0_say G M (xs (i + 1))) e1 rfl rfl rfl rfl (rest := []) rfl (Nat.le_of_ble_eq_true rfl) dL_law_411 (by omega) (by omega) ?_
  refine lw_al2 hk dL_law_414 ?_
  refine lw_arg hk 1 ic_1 ⟨by omega, hi.2⟩ dL_law_415 dL_law_416 dL_law_417 dL_law_418 dL_law_419 ?_
  refine lw_cl 1 hk lc_L_40 (by omega) (kX2_say G M1 (xs (i + 1))) e2 rfl rfl rfl rfl (rest := [.int r]) rfl (Nat.le_of_ble_eq_true rfl) dL_law_420 (by omega) (by omega) ?_
  refine lw_eq hk (r := r) dL_law_423 rfl ?_
  exact LW_wd (hbrk G M2 hk hI2)
theorem lcase_6 {κ : LX} {Ln : Nat} {xs : Nat → Int32} {G : am_G} {M : am_M} {i cells slots : Nat} (hk : LK κ Ln xs G) (hI : Inv G.2.2.2.1 M) (hi : i + 6 ≤ Ln ∧ Ln ≤ 384) (hc : cells ≤ 599000) (hs : slots ≤ 7300000) (hbrk : ∀ (G' : am_G) (M' : am_M), LK κ Ln xs G' → Inv G'.2.2.2.1 M' → LW κ G' M' i (cells + 13) (slots + 121) 1091 []) : LW κ G M i cells slots 428 [] := by
  obtain ⟨r, M1, M2, e1, e2, hI2⟩ := op_wipe hI
  refine lw_al1 hk dL_law_428 ?_
  refine lw_cl 0 hk lc_L_41 (by omega) (kX0_wipe G M) e1 rfl rfl rfl rfl (rest := []) rfl (Nat.le_of_ble_eq_true rfl) dL_law_429 (by omega) (by omega) ?_
  refine lw_al2 hk dL_law_432 ?_
  refine lw_cl 1 hk lc_L_45 (by omega) (kX2_wipe G M1) e2 rfl rfl rfl rfl (rest := [.int r]) rfl (Nat.le_of_ble_eq_true rfl) dL_law_433 (by omega) (by omega) ?_
  refine lw_eq hk (r := r) dL_law_436 rfl ?_
  exact LW_wd (hbrk G M2 hk hI2)
theorem lcase_7 {κ : LX} {Ln : Nat} {xs : Nat → Int32} {G : am_G} {M : am_M} {i cells slots : Nat} (hk : LK κ Ln xs G) (hI : Inv G.2.2.2.1 M) (hi : i + 6 ≤ Ln ∧ Ln ≤ 384) (hc : cells ≤ 599000) (hs : slots ≤ 7300000) (hbrk : ∀ (G' : am_G) (M' : am_M), LK κ Ln xs G' → Inv G'.2.2.2.1 M' → LW κ G' M' i (cells + 13) (slots + 121) 1091 []) : LW κ G M i cells slots 441 [] := by
  obtain ⟨r, M1, e1, e2, hI2⟩ := op_fault hI
  refine lw_al1 hk dL_law_441 ?_
  refine lw_cl 0 hk lc_L_46 (by omega) (kX0_fault G M) e1 rfl rfl rfl rfl (rest := []) rfl (Nat.le_of_ble_eq_true rfl) dL_law_442 (by omega) (by omega) ?_
  refine lw_al2 hk dL_law_445 ?_
  refine lw_cl 1 hk lc_L_49 (by omega) (kX2_fault G M1) e2 rfl rfl rfl rfl (rest := [.int r]) rfl (Nat.le_of_ble_eq_true rfl) dL_law_446 (by omega) (by omega) ?_
  refine lw_eq hk (r := r) dL_law_449 rfl ?_
  exact LW_wd (hbrk G M1 hk hI2)
theorem lcase_8 {κ : LX} {Ln : Nat} {xs : Nat → Int32} {G : am_G} {M : am_M} {i cells slots : Nat} (hk : LK κ Ln xs G) (hI : Inv G.2.2.2.1 M) (hi : i + 6 ≤ Ln ∧ Ln ≤ 384) (hc : cells ≤ 599000) (hs : slots ≤ 7300000) (hbrk : ∀ (G' : am_G) (M' : am_M), LK κ Ln xs G' → Inv G'.2.2.2.1 M' → LW κ G' M' i (cells + 13) (slots + 121) 1091 []) : LW κ G M i cells slots 454 [] := by
  obtain ⟨r, M1, M2, e1, e2, hI2⟩ := op_judge hI (xs (i + 1))
  refine lw_al1 hk dL_law_454 ?_
  refine lw_arg hk 1 ic_1 ⟨by omega, hi.2⟩ dL_law_455 dL_law_456 dL_law_457 dL_law_458 dL_law_459 ?_
  refine lw_cl 0 hk lc_L_50 (by omega) (kX0_judge G M (xs (i + 1))) e1 rfl rfl rfl rfl (rest := []) rfl (Nat.le_of_ble_eq_true rfl) dL_law_460 (by omega) (by omega) ?_
  refine lw_al2 hk dL_law_463 ?_
  refine lw_arg hk 1 ic_1 ⟨by omega, hi.2⟩ dL_law_464 dL_law_465 dL_law_466 dL_law_467 dL_law_468 ?_
  refine lw_cl 1 hk lc_L_53 (by omega) (kX2_judge G M1 (xs (i + 1))) e2 rfl rfl rfl rfl (rest := [.int r]) rfl (Nat.le_of_ble_eq_true rfl) dL_law_469 (by omega) (by omega) ?_
  refine lw_eq hk (r := r) dL_law_472 rfl ?_
  exact LW_wd (hbrk G M2 hk hI2)
theorem lcase_9 {κ : LX} {Ln : Nat} {xs : Nat → Int32} {G : am_G} {M : am_M} {i cells slots : Nat} (hk : LK κ Ln xs G) (hI : Inv G.2.2.2.1 M) (hi : i + 6 ≤ Ln ∧ Ln ≤ 384) (hc : cells ≤ 599000) (hs : slots ≤ 7300000) (hbrk : ∀ (G' : am_G) (M' : am_M), LK κ Ln xs G' → Inv G'.2.2.2.1 M' → LW κ G' M' i (cells + 13) (slots + 121) 1091 []) : LW κ G M i cells slots 477 [] := by
  obtain ⟨r, M1, M2, e1, e2, hI2⟩ := op_done hI
  refine lw_al1 hk dL_law_477 ?_
  refine lw_cl 0 hk lc_L_54 (by omega) (kX0_done G M) e1 rfl rfl rfl rfl (rest := []) rfl (Nat.le_of_ble_eq_true rfl) dL_law_478 (by omega) (by omega) ?_
  refine lw_al2 hk dL_law_481 ?_
  refine lw_cl 1 hk lc_L_57 (by omega) (kX2_done G M1) e2 rfl rfl rfl rfl (rest := [.int r]) rfl (Nat.le_of_ble_eq_true rfl) dL_law_482 (by omega) (by omega) ?_
  refine lw_eq hk (r := r) dL_law_485 rfl ?_
  exact LW_wd (hbrk G M2 hk hI2)
theorem lcase_10 {κ : LX} {Ln : Nat} {xs : Nat → Int32} {G : am_G} {M : am_M} {i cells slots : Nat} (hk : LK κ Ln xs G) (hI : Inv G.2.2.2.1 M) (hi : i + 6 ≤ Ln ∧ Ln ≤ 384) (hc : cells ≤ 599000) (hs : slots ≤ 7300000) (hbrk : ∀ (G' : am_G) (M' : am_M), LK κ Ln xs G' → Inv G'.2.2.2.1 M' → LW κ G' M' i (cells + 13) (slots + 121) 1091 []) : LW κ G M i cells slots 490 [] := by
  obtain ⟨r, M1, M2, e1, e2, hI2⟩ := op_behind hI (xs (i + 1)) (xs (i + 2))
  refine lw_al1 hk dL_law_490 ?_
  refine lw_arg hk 1 ic_1 ⟨by omega, hi.2⟩ dL_law_491 dL_law_492 dL_law_493 dL_law_494 dL_law_495 ?_
  refine lw_arg hk 2 ic_2 ⟨by omega, hi.2⟩ dL_law_496 dL_law_497 dL_law_498 dL_law_499 dL_law_500 ?_
  refine lw_cl 0 hk lc_L_58 (by omega) (kX0_behind G M (xs (i + 1)) (xs (i + 2))) e1 rfl rfl rfl rfl (rest := []) rfl (Nat.le_of_ble_eq_true rfl) dL_law_501 (by omega) (by omega) ?_
  refine lw_al2 hk dL_law_504 ?_
  refine lw_arg hk 1 ic_1 ⟨by omega, hi.2⟩ dL_law_505 dL_law_506 dL_law_507 dL_law_508 dL_law_509 ?_
  refine lw_arg hk 2 ic_2 ⟨by omega, hi.2⟩ dL_law_510 dL_law_511 dL_law_512 dL_law_513 dL_law_514 ?_
  refine lw_cl 1 hk lc_L_61 (by omega) (kX2_behind G M1 (xs (i + 1)) (xs (i + 2))) e2 rfl rfl rfl rfl (rest := [.int r]) rfl (Nat.le_of_ble_eq_true rfl) dL_law_515 (by omega) (by omega) ?_
  refine lw_eq hk (r := r) dL_law_518 rfl ?_
  exact LW_wd (hbrk G M2 hk hI2)
theorem lcase_11 {κ : LX} {Ln : Nat} {xs : Nat → Int32} {G : am_G} {M : am_M} {i cells slots : Nat} (hk : LK κ Ln xs G) (hI : Inv G.2.2.2.1 M) (hi : i + 6 ≤ Ln ∧ Ln ≤ 384) (hc : cells ≤ 599000) (hs : slots ≤ 7300000) (hbrk : ∀ (G' : am_G) (M' : am_M), LK κ Ln xs G' → Inv G'.2.2.2.1 M' → LW κ G' M' i (cells + 13) (slots + 121) 1091 []) : LW κ G M i cells slots 523 [] := by
  obtain ⟨r, M1, M2, e1, e2, hI2⟩ := op_seam hI (xs (i + 1)) (xs (i + 2))
  refine lw_al1 hk dL_law_523 ?_
  refine lw_arg hk 1 ic_1 ⟨by omega, hi.2⟩ dL_law_524 dL_law_525 dL_law_526 dL_law_527 dL_law_528 ?_
  refine lw_arg hk 2 ic_2 ⟨by omega, hi.2⟩ dL_law_529 dL_law_530 dL_law_531 dL_law_532 dL_law_533 ?_
  refine lw_cl 0 hk lc_L_62 (by omega) (kX0_seam G M (xs (i + 1)) (xs (i + 2))) e1 rfl rfl rfl rfl (rest := []) rfl (Nat.le_of_ble_eq_true rfl) dL_law_534 (by omega) (by omega) ?_
  refine lw_al2 hk dL_law_537 ?_
  refine lw_arg hk 1 ic_1 ⟨by omega, hi.2⟩ dL_law_538 dL_law_539 dL_law_540 dL_law_541 dL_law_542 ?_
  refine lw_arg hk 2 ic_2 ⟨by omega, hi.2⟩ dL_law_543 dL_law_544 dL_law_545 dL_law_546 dL_law_547 ?_
  refine lw_cl 1 hk lc_L_65 (by omega) (kX2_seam G M1 (xs (i + 1)) (xs (i + 2))) e2 rfl rfl rfl rfl (rest := [.int r]) rfl (Nat.le_of_ble_eq_true rfl) dL_law_548 (by omega) (by omega) ?_
  refine lw_eq hk (r := r) dL_law_551 rfl ?_
  exact LW_wd (hbrk G M2 hk hI2)
theorem lcase_12 {κ : LX} {Ln : Nat} {xs : Nat → Int32} {G : am_G} {M : am_M} {i cells slots : Nat} (hk : LK κ Ln xs G) (hI : Inv G.2.2.2.1 M) (hi : i + 6 ≤ Ln ∧ Ln ≤ 384) (hc : cells ≤ 599000) (hs : slots ≤ 7300000) (hbrk : ∀ (G' : am_G) (M' : am_M), LK κ Ln xs G' → Inv G'.2.2.2.1 M' → LW κ G' M' i (cells + 13) (slots + 121) 1091 []) : LW κ G M i cells slots 556 [] := by
  obtain ⟨r, M1, M2, e1, e2, hI2⟩ := op_then hI (xs (i + 1))
  refine lw_al1 hk dL_law_556 ?_
  refine lw_arg hk 1 ic_1 ⟨by omega, hi.2⟩ dL_law_557 dL_law_558 dL_law_559 dL_law_560 dL_law_561 ?_
  refine lw_cl 0 hk lc_L_66 (by omega) (kX0_then G M (xs (i + 1))) e1 rfl rfl rfl rfl (rest := []) rfl (Nat.le_of_ble_eq_true rfl) dL_law_562 (by omega) (by omega) ?_
  refine lw_al2 hk dL_law_565 ?_
  refine lw_arg hk 1 ic_1 ⟨by omega, hi.2⟩ dL_law_566 dL_law_567 dL_law_568 dL_law_569 dL_law_570 ?_
  refine lw_cl 1 hk lc_L_69 (by omega) (kX2_then G M1 (xs (i + 1))) e2 rfl rfl rfl rfl (rest := [.int r]) rfl (Nat.le_of_ble_eq_true rfl) dL_law_571 (by omega) (by omega) ?_
  refine lw_eq hk (r := r) dL_law_574 rfl ?_
  exact LW_wd (hbrk G M2 hk hI2)
theorem lcase_13 {κ : LX} {Ln : Nat} {xs : Nat → Int32} {G : am_G} {M : am_M} {i cells slots : Nat} (hk : LK κ Ln xs G) (hI : Inv G.2.2.2.1 M) (hi : i + 6 ≤ Ln ∧ Ln ≤ 384) (hc : cells ≤ 599000) (hs : slots ≤ 7300000) (hbrk : ∀ (G' : am_G) (M' : am_M), LK κ Ln xs G' → Inv G'.2.2.2.1 M' → LW κ G' M' i (cells + 13) (slots + 121) 1091 []) : LW κ G M i cells slots 579 [] := by
  obtain ⟨r, M2, e1, e2, hI2⟩ := op_light hI (xs (i + 1))
  refine lw_al1 hk dL_law_579 ?_
  refine lw_arg hk 1 ic_1 ⟨by omega, hi.2⟩ dL_law_580 dL_law_581 dL_law_582 dL_law_583 dL_law_584 ?_
  refine lw_cl 0 hk lc_L_70 (by omega) (kX0_light G M (xs (i + 1))) e1 rfl rfl rfl rfl (rest := []) rfl (Nat.le_of_ble_eq_true rfl) dL_law_585 (by omega) (by omega) ?_
  refine lw_al2 hk dL_law_588 ?_
  refine lw_arg hk 1 ic_1 ⟨by omega, hi.2⟩ dL_law_589 dL_law_590 dL_law_591 dL_law_592 dL_law_593 ?_
  refine lw_cl 1 hk lc_L_73 (by omega) (kX2_light G M (xs (i + 1))) e2 rfl rfl rfl rfl (rest := [.int r]) rfl (Nat.le_of_ble_eq_true rfl) dL_law_594 (by omega) (by omega) ?_
  refine lw_eq hk (r := r) dL_law_597 rfl ?_
  exact LW_wd (hbrk G M2 hk hI2)
theorem lcase_14 {κ : LX} {Ln : Nat} {xs : Nat → Int32} {G : am_G} {M : am_M} {i cells slots : Nat} (hk : LK κ Ln xs G) (hI : Inv G.2.2.2.1 M) (hi : i + 6 ≤ Ln ∧ Ln ≤ 384) (hc : cells ≤ 599000) (hs : slots ≤ 7300000) (hbrk : ∀ (G' : am_G) (M' : am_M), LK κ Ln xs G' → Inv G'.2.2.2.1 M' → LW κ G' M' i (cells + 13) (slots + 121) 1091 []) : LW κ G M i cells slots 602 [] := by
  obtain ⟨r, M2, e1, e2, hI2⟩ := op_shakes hI
  refine lw_al1 hk dL_law_602 ?_
  refine lw_cl 0 hk lc_L_74 (by omega) (kX0_shakes G M) e1 rfl rfl rfl rfl (rest := []) rfl (Nat.le_of_ble_eq_true rfl) dL_law_603 (by omega) (by omega) ?_
  refine lw_al2 hk dL_law_606 ?_
  refine lw_cl 1 hk lc_L_77 (by omega) (kX2_shakes G M) e2 rfl rfl rfl rfl (rest := [.int r]) rfl (Nat.le_of_ble_eq_true rfl) dL_law_607 (by omega) (by omega) ?_
  refine lw_eq hk (r := r) dL_law_610 rfl ?_
  exact LW_wd (hbrk G M2 hk hI2)
theorem lcase_15 {κ : LX} {Ln : Nat} {xs : Nat → Int32} {G : am_G} {M : am_M} {i cells slots : Nat} (hk : LK κ Ln xs G) (hI : Inv G.2.2.2.1 M) (hi : i + 6 ≤ Ln ∧ Ln ≤ 384) (hc : cells ≤ 599000) (hs : slots ≤ 7300000) (hbrk : ∀ (G' : am_G) (M' : am_M), LK κ Ln xs G' → Inv G'.2.2.2.1 M' → LW κ G' M' i (cells + 13) (slots + 121) 1091 []) : LW κ G M i cells slots 615 [] := by
  obtain ⟨r, M2, e1, e2, hI2⟩ := op_way hI (xs (i + 1)) (xs (i + 2)) (xs (i + 3))
  refine lw_al1 hk dL_law_615 ?_
  refine lw_arg hk 1 ic_1 ⟨by omega, hi.2⟩ dL_law_616 dL_law_617 dL_law_618 dL_law_619 dL_law_620 ?_
  refine lw_arg hk 2 ic_2 ⟨by omega, hi.2⟩ dL_law_621 dL_law_622 dL_law_623 dL_law_624 dL_law_625 ?_
  refine lw_arg hk 3 ic_3 ⟨by omega, hi.2⟩ dL_law_626 dL_law_627 dL_law_628 dL_law_629 dL_law_630 ?_
  refine lw_cl 0 hk lc_L_78 (by omega) (kX0_way G M (xs (i + 1)) (xs (i + 2)) (xs (i + 3))) e1 rfl rfl rfl rfl (rest := []) rfl (Nat.le_of_ble_eq_true rfl) dL_law_631 (by omega) (by omega) ?_
  refine lw_al2 hk dL_law_634 ?_
  refine lw_arg hk 1 ic_1 ⟨by omega, hi.2⟩ dL_law_635 dL_law_636 dL_law_637 dL_law_638 dL_law_639 ?_
  refine lw_arg hk 2 ic_2 ⟨by omega, hi.2⟩ dL_law_640 dL_law_641 dL_law_642 dL_law_643 dL_law_644 ?_
  refine lw_arg hk 3 ic_3 ⟨by omega, hi.2⟩ dL_law_645 dL_law_646 dL_law_647 dL_law_648 dL_law_649 ?_
  refine lw_cl 1 hk lc_L_82 (by omega) (kX2_way G M (xs (i + 1)) (xs (i + 2)) (xs (i + 3))) e2 rfl rfl rfl rfl (rest := [.int r]) rfl (Nat.le_of_ble_eq_true rfl) dL_law_650 (by omega) (by omega) ?_
  refine lw_eq hk (r := r) dL_law_653 rfl ?_
  exact LW_wd (hbrk G M2 hk hI2)
theorem lcase_16 {κ : LX} {Ln : Nat} {xs : Nat → Int32} {G : am_G} {M : am_M} {i cells slots : Nat} (hk : LK κ Ln xs G) (hI : Inv G.2.2.2.1 M) (hi : i + 6 ≤ Ln ∧ Ln ≤ 384) (hc : cells ≤ 599000) (hs : slots ≤ 7300000) (hbrk : ∀ (G' : am_G) (M' : am_M), LK κ Ln xs G' → Inv G'.2.2.2.1 M' → LW κ G' M' i (cells + 13) (slots + 121) 1091 []) : LW κ G M i cells slots 658 [] := by
  obtain ⟨r, e1, e2⟩ := op_fewest hI (xs (i + 1)) (xs (i + 2))
  refine lw_al1 hk dL_law_658 ?_
  refine lw_arg hk 1 ic_1 ⟨by omega, hi.2⟩ dL_law_659 dL_law_660 dL_law_661 dL_law_662 dL_law_663 ?_
  refine lw_arg hk 2 ic_2 ⟨by omega, hi.2⟩ dL_law_664 dL_law_665 dL_law_666 dL_law_667 dL_law_668 ?_
  refine lw_cl 0 hk lc_L_83 (by omega) (kX0_fewest G M (xs (i + 1)) (xs (i + 2))) e1 rfl rfl rfl rfl (rest := []) rfl (Nat.le_of_ble_eq_true rfl) dL_law_669 (by omega) (by omega) ?_
  refine lw_al2 hk dL_law_672 ?_
  refine lw_arg hk 1 ic_1 ⟨by omega, hi.2⟩ dL_law_673 dL_law_674 dL_law_675 dL_law_676 dL_law_677 ?_
  refine lw_arg hk 2 ic_2 ⟨by omega, hi.2⟩ dL_law_678 dL_law_679 dL_law_680 dL_law_681 dL_law_682 ?_
  refine lw_cl 1 hk lc_L_86 (by omega) (kX2_fewest G M (xs (i + 1)) (xs (i + 2))) e2 rfl rfl rfl rfl (rest := [.int r]) rfl (Nat.le_of_ble_eq_true rfl) dL_law_683 (by omega) (by omega) ?_
  refine lw_eq hk (r := r) dL_law_686 rfl ?_
  exact LW_wd (hbrk G M hk hI)
theorem lcase_17 {κ : LX} {Ln : Nat} {xs : Nat → Int32} {G : am_G} {M : am_M} {i cells slots : Nat} (hk : LK κ Ln xs G) (hI : Inv G.2.2.2.1 M) (hi : i + 6 ≤ Ln ∧ Ln ≤ 384) (hc : cells ≤ 599000) (hs : slots ≤ 7300000) (hbrk : ∀ (G' : am_G) (M' : am_M), LK κ Ln xs G' → Inv G'.2.2.2.1 M' → LW κ G' M' i (cells + 13) (slots + 121) 1091 []) : LW κ G M i cells slots 691 [] := by
  obtain ⟨r, M2, e1, e2, hI2⟩ := op_keep hI (xs (i + 1))
  refine lw_al1 hk dL_law_691 ?_
  refine lw_arg hk 1 ic_1 ⟨by omega, hi.2⟩ dL_law_692 dL_law_693 dL_law_694 dL_law_695 dL_law_696 ?_
  refine lw_cl 0 hk lc_L_87 (by omega) (kX0_keep G M (xs (i + 1))) e1 rfl rfl rfl rfl (rest := []) rfl (Nat.le_of_ble_eq_true rfl) dL_law_697 (by omega) (by omega) ?_
  refine lw_al2 hk dL_law_700 ?_
  refine lw_arg hk 1 ic_1 ⟨by omega, hi.2⟩ dL_law_701 dL_law_702 dL_law_703 dL_law_704 dL_law_705 ?_
  refine lw_cl 1 hk lc_L_90 (by omega) (kX2_keep G M (xs (i + 1))) e2 rfl rfl rfl rfl (rest := [.int r]) rfl (Nat.le_of_ble_eq_true rfl) dL_law_706 (by omega) (by omega) ?_
  refine lw_eq hk (r := r) dL_law_709 rfl ?_
  exact LW_wd (hbrk G M2 hk hI2)
theorem lcase_18 {κ : LX} {Ln : Nat} {xs : Nat → Int32} {G : am_G} {M : am_M} {i cells slots : Nat} (hk : LK κ Ln xs G) (hI : Inv G.2.2.2.1 M) (hi : i + 6 ≤ Ln ∧ Ln ≤ 384) (hc : cells ≤ 599000) (hs : slots ≤ 7300000) (hbrk : ∀ (G' : am_G) (M' : am_M), LK κ Ln xs G' → Inv G'.2.2.2.1 M' → LW κ G' M' i (cells + 13) (slots + 121) 1091 []) : LW κ G M i cells slots 714 [] := by
  obtain ⟨r, M2, e1, e2, hI2⟩ := op_cut hI
  refine lw_al1 hk dL_law_714 ?_
  refine lw_cl 0 hk lc_L_91 (by omega) (kX0_cut G M) e1 rfl rfl rfl rfl (rest := []) rfl (Nat.le_of_ble_eq_true rfl) dL_law_715 (by omega) (by omega) ?_
  refine lw_al2 hk dL_law_718 ?_
  refine lw_cl 1 hk lc_L_94 (by omega) (kX2_cut G M) e2 rfl rfl rfl rfl (rest := [.int r]) rfl (Nat.le_of_ble_eq_true rfl) dL_law_719 (by omega) (by omega) ?_
  refine lw_eq hk (r := r) dL_law_722 rfl ?_
  exact LW_wd (hbrk G M2 hk hI2)
theorem lcase_19 {κ : LX} {Ln : Nat} {xs : Nat → Int32} {G : am_G} {M : am_M} {i cells slots : Nat} (hk : LK κ Ln xs G) (hI : Inv G.2.2.2.1 M) (hi : i + 6 ≤ Ln ∧ Ln ≤ 384) (hc : cells ≤ 599000) (hs : slots ≤ 7300000) (hbrk : ∀ (G' : am_G) (M' : am_M), LK κ Ln xs G' → Inv G'.2.2.2.1 M' → LW κ G' M' i (cells + 13) (slots + 121) 1091 []) : LW κ G M i cells slots 727 [] := by
  obtain ⟨r, M1, M2, e1, e2, hI2⟩ := op_hold hI (xs (i + 1)) (xs (i + 2)) (xs (i + 3))
  refine lw_al1 hk dL_law_727 ?_
  refine lw_arg hk 1 ic_1 ⟨by omega, hi.2⟩ dL_law_728 dL_law_729 dL_law_730 dL_law_731 dL_law_732 ?_
  refine lw_arg hk 2 ic_2 ⟨by omega, hi.2⟩ dL_law_733 dL_law_734 dL_law_735 dL_law_736 dL_law_737 ?_
  refine lw_arg hk 3 ic_3 ⟨by omega, hi.2⟩ dL_law_738 dL_law_739 dL_law_740 dL_law_741 dL_law_742 ?_
  refine lw_cl 0 hk lc_L_95 (by omega) (kX0_hold G M (xs (i + 1)) (xs (i + 2)) (xs (i + 3))) e1 rfl rfl rfl rfl (rest := []) rfl (Nat.le_of_ble_eq_true rfl) dL_law_743 (by omega) (by omega) ?_
  refine lw_al2 hk dL_law_746 ?_
  refine lw_arg hk 1 ic_1 ⟨by omega, hi.2⟩ dL_law_747 dL_law_748 dL_law_749 dL_law_750 dL_law_751 ?_
  refine lw_arg hk 2 ic_2 ⟨by omega, hi.2⟩ dL_law_752 dL_law_753 dL_law_754 dL_law_755 dL_law_756 ?_
  refine lw_arg hk 3 ic_3 ⟨by omega, hi.2⟩ dL_law_757 dL_law_758 dL_law_759 dL_law_760 dL_law_761 ?_
  refine lw_cl 1 hk lc_L_98 (by omega) (kX2_hold G M1 (xs (i + 1)) (xs (i + 2)) (xs (i + 3))) e2 rfl rfl rfl rfl (rest := [.int r]) rfl (Nat.le_of_ble_eq_true rfl) dL_law_762 (by omega) (by omega) ?_
  refine lw_eq hk (r := r) dL_law_765 rfl ?_
  exact LW_wd (hbrk G M2 hk hI2)
theorem lcase_20 {κ : LX} {Ln : Nat} {xs : Nat → Int32} {G : am_G} {M : am_M} {i cells slots : Nat} (hk : LK κ Ln xs G) (hI : Inv G.2.2.2.1 M) (hi : i + 6 ≤ Ln ∧ Ln ≤ 384) (hc : cells ≤ 599000) (hs : slots ≤ 7300000) (hbrk : ∀ (G' : am_G) (M' : am_M), LK κ Ln xs G' → Inv G'.2.2.2.1 M' → LW κ G' M' i (cells + 13) (slots + 121) 1091 []) : LW κ G M i cells slots 770 [] := by
  obtain ⟨r, e1, e2⟩ := op_round M (xs (i + 1)) (xs (i + 2)) (xs (i + 3)) (xs (i + 4))
  refine lw_al1 hk dL_law_770 ?_
  refine lw_arg hk 1 ic_1 ⟨by omega, hi.2⟩ dL_law_771 dL_law_772 dL_law_773 dL_law_774 dL_law_775 ?_
  refine lw_arg hk 2 ic_2 ⟨by omega, hi.2⟩ dL_law_776 dL_law_777 dL_law_778 dL_law_779 dL_law_780 ?_
  refine lw_arg hk 3 ic_3 ⟨by omega, hi.2⟩ dL_law_781 dL_law_782 dL_law_783 dL_law_784 dL_law_785 ?_
  refine lw_arg hk 4 ic_4 ⟨by omega, hi.2⟩ dL_law_786 dL_law_787 dL_law_788 dL_law_789 dL_law_790 ?_
  refine lw_cl 0 hk lc_L_99 (by omega) (kX0_round G M (xs (i + 1)) (xs (i + 2)) (xs (i + 3)) (xs (i + 4))) e1 rfl rfl rfl rfl (rest := []) rfl (Nat.le_of_ble_eq_true rfl) dL_law_791 (by omega) (by omega) ?_
  refine lw_al2 hk dL_law_794 ?_
  refine lw_arg hk 1 ic_1 ⟨by omega, hi.2⟩ dL_law_795 dL_law_796 dL_law_797 dL_law_798 dL_law_799 ?_
  refine lw_arg hk 2 ic_2 ⟨by omega, hi.2⟩ dL_law_800 dL_law_801 dL_law_802 dL_law_803 dL_law_804 ?_
  refine lw_arg hk 3 ic_3 ⟨by omega, hi.2⟩ dL_law_805 dL_law_806 dL_law_807 dL_law_808 dL_law_809 ?_
  refine lw_arg hk 4 ic_4 ⟨by omega, hi.2⟩ dL_law_810 dL_law_811 dL_law_812 dL_law_813 dL_law_814 ?_
  refine lw_cl 1 hk lc_L_103 (by omega) (kX2_round G M (xs (i + 1)) (xs (i + 2)) (xs (i + 3)) (xs (i + 4))) e2 rfl rfl rfl rfl (rest := [.int r]) rfl (Nat.le_of_ble_eq_true rfl) dL_law_815 (by omega) (by omega) ?_
  refine lw_eq hk (r := r) dL_law_818 rfl ?_
  exact LW_wd (hbrk G M hk hI)
theorem lcase_21 {κ : LX} {Ln : Nat} {xs : Nat → Int32} {G : am_G} {M : am_M} {i cells slots : Nat} (hk : LK κ Ln xs G) (hI : Inv G.2.2.2.1 M) (hi : i + 6 ≤ Ln ∧ Ln ≤ 384) (hc : cells ≤ 599000) (hs : slots ≤ 7300000) (hbrk : ∀ (G' : am_G) (M' : am_M), LK κ Ln xs G' → Inv G'.2.2.2.1 M' → LW κ G' M' i (cells + 13) (slots + 121) 1091 []) : LW κ G M i cells slots 823 [] := by
  obtain ⟨r, M1, M2, e1, e2, hI2⟩ := op_heard hI (xs (i + 1)) (xs (i + 2))
  refine lw_al1 hk dL_law_823 ?_
  refine lw_arg hk 1 ic_1 ⟨by omega, hi.2⟩ dL_law_824 dL_law_825 dL_law_826 dL_law_827 dL_law_828 ?_
  refine lw_arg hk 2 ic_2 ⟨by omega, hi.2⟩ dL_law_829 dL_law_830 dL_law_831 dL_law_832 dL_law_833 ?_
  refine lw_cl 0 hk lc_L_104 (by omega) (kX0_heard G M (xs (i + 1)) (xs (i + 2))) e1 rfl rfl rfl rfl (rest := []) rfl (Nat.le_of_ble_eq_true rfl) dL_law_834 (by omega) (by omega) ?_
  refine lw_al2 hk dL_law_837 ?_
  refine lw_arg hk 1 ic_1 ⟨by omega, hi.2⟩ dL_law_838 dL_law_839 dL_law_840 dL_law_841 dL_law_842 ?_
  refine lw_arg hk 2 ic_2 ⟨by omega, hi.2⟩ dL_law_843 dL_law_844 dL_law_845 dL_law_846 dL_law_847 ?_
  refine lw_cl 1 hk lc_L_107 (by omega) (kX2_heard G M1 (xs (i + 1)) (xs (i + 2))) e2 rfl rfl rfl rfl (rest := [.int r]) rfl (Nat.le_of_ble_eq_true rfl) dL_law_848 (by omega) (by omega) ?_
  refine lw_eq hk (r := r) dL_law_851 rfl ?_
  exact LW_wd (hbrk G M2 hk hI2)
theorem lcase_22 {κ : LX} {Ln : Nat} {xs : Nat → Int32} {G : am_G} {M : am_M} {i cells slots : Nat} (hk : LK κ Ln xs G) (hI : Inv G.2.2.2.1 M) (hi : i + 6 ≤ Ln ∧ Ln ≤ 384) (hc : cells ≤ 599000) (hs : slots ≤ 7300000) (hbrk : ∀ (G' : am_G) (M' : am_M), LK κ Ln xs G' → Inv G'.2.2.2.1 M' → LW κ G' M' i (cells + 13) (slots + 121) 1091 []) : LW κ G M i cells slots 856 [] := by
  obtain ⟨r, M1, M2, e1, e2, hI2⟩ := op_forget hI
  refine lw_al1 hk dL_law_856 ?_
  refine lw_cl 0 hk lc_L_108 (by omega) (kX0_forget G M) e1 rfl rfl rfl rfl (rest := []) rfl (Nat.le_of_ble_eq_true rfl) dL_law_857 (by omega) (by omega) ?_
  refine lw_al2 hk dL_law_860 ?_
  refine lw_cl 1 hk lc_L_111 (by omega) (kX2_forget G M1) e2 rfl rfl rfl rfl (rest := [.int r]) rfl (Nat.le_of_ble_eq_true rfl) dL_law_861 (by omega) (by omega) ?_
  refine lw_eq hk (r := r) dL_law_864 rfl ?_
  exact LW_wd (hbrk G M2 hk hI2)
theorem lcase_23 {κ : LX} {Ln : Nat} {xs : Nat → Int32} {G : am_G} {M : am_M} {i cells slots : Nat} (hk : LK κ Ln xs G) (hI : Inv G.2.2.2.1 M) (hi : i + 6 ≤ Ln ∧ Ln ≤ 384) (hc : cells ≤ 599000) (hs : slots ≤ 7300000) (hbrk : ∀ (G' : am_G) (M' : am_M), LK κ Ln xs G' → Inv G'.2.2.2.1 M' → LW κ G' M' i (cells + 13) (slots + 121) 1091 []) : LW κ G M i cells slots 869 [] := by
  obtain ⟨r, M1, M2, e1, e2, hI2⟩ := op_losts hI (xs (i + 1))
  refine lw_al1 hk dL_law_869 ?_
  refine lw_arg hk 1 ic_1 ⟨by omega, hi.2⟩ dL_law_870 dL_law_871 dL_law_872 dL_law_873 dL_law_874 ?_
  refine lw_cl 0 hk lc_L_112 (by omega) (kX0_losts G M (xs (i + 1))) e1 rfl rfl rfl rfl (rest := []) rfl (Nat.le_of_ble_eq_true rfl) dL_law_875 (by omega) (by omega) ?_
  refine lw_al2 hk dL_law_878 ?_
  refine lw_arg hk 1 ic_1 ⟨by omega, hi.2⟩ dL_law_879 dL_law_880 dL_law_881 dL_law_882 dL_law_883 ?_
  refine lw_cl 1 hk lc_L_115 (by omega) (kX2_losts G M1 (xs (i + 1))) e2 rfl rfl rfl rfl (rest := [.int r]) rfl (Nat.le_of_ble_eq_true rfl) dL_law_884 (by omega) (by omega) ?_
  refine lw_eq hk (r := r) dL_law_887 rfl ?_
  exact LW_wd (hbrk G M2 hk hI2)
theorem lcase_24 {κ : LX} {Ln : Nat} {xs : Nat → Int32} {G : am_G} {M : am_M} {i cells slots : Nat} (hk : LK κ Ln xs G) (hI : Inv G.2.2.2.1 M) (hi : i + 6 ≤ Ln ∧ Ln ≤ 384) (hc : cells ≤ 599000) (hs : slots ≤ 7300000) (hbrk : ∀ (G' : am_G) (M' : am_M), LK κ Ln xs G' → Inv G'.2.2.2.1 M' → LW κ G' M' i (cells + 13) (slots + 121) 1091 []) : LW κ G M i cells slots 892 [] := by
  obtain ⟨r, M1, M2, e1, e2, hI2⟩ := op_listen hI (xs (i + 1))
  refine lw_al1 hk dL_law_892 ?_
  refine lw_arg hk 1 ic_1 ⟨by omega, hi.2⟩ dL_law_893 dL_law_894 dL_law_895 dL_law_896 dL_law_897 ?_
  refine lw_cl 0 hk lc_L_116 (by omega) (kX0_listen G M (xs (i + 1))) e1 rfl rfl rfl rfl (rest := []) rfl (Nat.le_of_ble_eq_true rfl) dL_law_898 (by omega) (by omega) ?_
  refine lw_al2 hk dL_law_901 ?_
  refine lw_arg hk 1 ic_1 ⟨by omega, hi.2⟩ dL_law_902 dL_law_903 dL_law_904 dL_law_905 dL_law_906 ?_
  refine lw_cl 1 hk lc_L_119 (by omega) (kX2_listen G M1 (xs (i + 1))) e2 rfl rfl rfl rfl (rest := [.int r]) rfl (Nat.le_of_ble_eq_true rfl) dL_law_907 (by omega) (by omega) ?_
  refine lw_eq hk (r := r) dL_law_910 rfl ?_
  exact LW_wd (hbrk G M2 hk hI2)
theorem lcase_25 {κ : LX} {Ln : Nat} {xs : Nat → Int32} {G : am_G} {M : am_M} {i cells slots : Nat} (hk : LK κ Ln xs G) (hI : Inv G.2.2.2.1 M) (hi : i + 6 ≤ Ln ∧ Ln ≤ 384) (hc : cells ≤ 599000) (hs : slots ≤ 7300000) (hbrk : ∀ (G' : am_G) (M' : am_M), LK κ Ln xs G' → Inv G'.2.2.2.1 M' → LW κ G' M' i (cells + 13) (slots + 121) 1091 []) : LW κ G M i cells slots 915 [] := by
  obtain ⟨r, M2, e1, e2, hI2⟩ := op_cold hI (xs (i + 1)) (xs (i + 2)) (xs (i + 3)) (xs (i + 4)) (xs (i + 5))
  refine lw_al1 hk dL_law_915 ?_
  refine lw_arg hk 1 ic_1 ⟨by omega, hi.2⟩ dL_law_916 dL_law_917 dL_law_918 dL_law_919 dL_law_920 ?_
  refine lw_arg hk 2 ic_2 ⟨by omega, hi.2⟩ dL_law_921 dL_law_922 dL_law_923 dL_law_924 dL_law_925 ?_
  refine lw_arg hk 3 ic_3 ⟨by omega, hi.2⟩ dL_law_926 dL_law_927 dL_law_928 dL_law_929 dL_law_930 ?_
  refine lw_arg hk 4 ic_4 ⟨by omega, hi.2⟩ dL_law_931 dL_law_932 dL_law_933 dL_law_934 dL_law_935 ?_
  refine lw_arg hk 5 ic_5 ⟨by omega, hi.2⟩ dL_law_936 dL_law_937 dL_law_938 dL_law_939 dL_law_940 ?_
  refine lw_cl 0 hk lc_L_120 (by omega) (kX0_cold G M (xs (i + 1)) (xs (i + 2)) (xs (i + 3)) (xs (i + 4)) (xs (i + 5))) e1 rfl rfl rfl rfl (rest := []) rfl (Nat.le_of_ble_eq_true rfl) dL_law_941 (by omega) (by omega) ?_
  refine lw_al2 hk dL_law_944 ?_
  refine lw_arg hk 1 ic_1 ⟨by omega, hi.2⟩ dL_law_945 dL_law_946 dL_law_947 dL_law_948 dL_law_949 ?_
  refine lw_arg hk 2 ic_2 ⟨by omega, hi.2⟩ dL_law_950 dL_law_951 dL_law_952 dL_law_953 dL_law_954 ?_
  refine lw_arg hk 3 ic_3 ⟨by omega, hi.2⟩ dL_law_955 dL_law_956 dL_law_957 dL_law_958 dL_law_959 ?_
  refine lw_arg hk 4 ic_4 ⟨by omega, hi.2⟩ dL_law_960 dL_law_961 dL_law_962 dL_law_963 dL_law_964 ?_
  refine lw_arg hk 5 ic_5 ⟨by omega, hi.2⟩ dL_law_965 dL_law_966 dL_law_967 dL_law_968 dL_law_969 ?_
  refine lw_cl 1 hk lc_L_124 (by omega) (kX2_cold G M (xs (i + 1)) (xs (i + 2)) (xs (i + 3)) (xs (i + 4)) (xs (i + 5))) e2 rfl rfl rfl rfl (rest := [.long r]) rfl (Nat.le_of_ble_eq_true rfl) dL_law_970 (by omega) (by omega) ?_
  refine lw_eql hk (r := r) dL_law_973 dL_law_974 rfl ?_
  exact LW_wd (hbrk G M2 hk hI2)
theorem lcase_26 {κ : LX} {Ln : Nat} {xs : Nat → Int32} {G : am_G} {M : am_M} {i cells slots : Nat} (hk : LK κ Ln xs G) (hI : Inv G.2.2.2.1 M) (hi : i + 6 ≤ Ln ∧ Ln ≤ 384) (hc : cells ≤ 599000) (hs : slots ≤ 7300000) (hbrk : ∀ (G' : am_G) (M' : am_M), LK κ Ln xs G' → Inv G'.2.2.2.1 M' → LW κ G' M' i (cells + 13) (slots + 121) 1091 []) : LW κ G M i cells slots 979 [] := by
  obtain ⟨r, M1, M2, e1, e2, hI2⟩ := op_year hI (xs (i + 1)) (xs (i + 2)) (xs (i + 3))
  refine lw_al1 hk dL_law_979 ?_
  refine lw_arg hk 1 ic_1 ⟨by omega, hi.2⟩ dL_law_980 dL_law_981 dL_law_982 dL_law_983 dL_law_984 ?_
  refine lw_arg hk 2 ic_2 ⟨by omega, hi.2⟩ dL_law_985 dL_law_986 dL_law_987 dL_law_988 dL_law_989 ?_
  refine lw_arg hk 3 ic_3 ⟨by omega, hi.2⟩ dL_law_990 dL_law_991 dL_law_992 dL_law_993 dL_law_994 ?_
  refine lw_cl 0 hk lc_L_125 (by omega) (kX0_year G M (xs (i + 1)) (xs (i + 2)) (xs (i + 3))) e1 rfl rfl rfl rfl (rest := []) rfl (Nat.le_of_ble_eq_true rfl) dL_law_995 (by omega) (by omega) ?_
  refine lw_al2 hk dL_law_998 ?_
  refine lw_arg hk 1 ic_1 ⟨by omega, hi.2⟩ dL_law_999 dL_law_1000 dL_law_1001 dL_law_1002 dL_law_1003 ?_
  refine lw_arg hk 2 ic_2 ⟨by omega, hi.2⟩ dL_law_1004 dL_law_1005 dL_law_1006 dL_law_1007 dL_law_1008 ?_
  refine lw_arg hk 3 ic_3 ⟨by omega, hi.2⟩ dL_law_1009 dL_law_1010 dL_law_1011 dL_law_1012 dL_law_1013 ?_
  refine lw_cl 1 hk lc_L_128 (by omega) (kX2_year G M1 (xs (i + 1)) (xs (i + 2)) (xs (i + 3))) e2 rfl rfl rfl rfl (rest := [.int r]) rfl (Nat.le_of_ble_eq_true rfl) dL_law_1014 (by omega) (by omega) ?_
  refine lw_eq hk (r := r) dL_law_1017 rfl ?_
  exact LW_wd (hbrk G M2 hk hI2)
theorem lcase_27 {κ : LX} {Ln : Nat} {xs : Nat → Int32} {G : am_G} {M : am_M} {i cells slots : Nat} (hk : LK κ Ln xs G) (hI : Inv G.2.2.2.1 M) (hi : i + 6 ≤ Ln ∧ Ln ≤ 384) (hc : cells ≤ 599000) (hs : slots ≤ 7300000) (hbrk : ∀ (G' : am_G) (M' : am_M), LK κ Ln xs G' → Inv G'.2.2.2.1 M' → LW κ G' M' i (cells + 13) (slots + 121) 1091 []) : LW κ G M i cells slots 1022 [] := by
  refine lw_al1 hk dL_law_1022 ?_
  refine lw_arg hk 1 ic_1 ⟨by omega, hi.2⟩ dL_law_1023 dL_law_1024 dL_law_1025 dL_law_1026 dL_law_1027 ?_
  refine lw_img hk dL_law_1028 hc hs ?_
  intro r u hp hk2
  have h2 : ∃ M2, fX2_image u.2.2 (xs (i + 1)) = some (r, M2) ∧ Inv u.2.1 M2 := by
    obtain ⟨-, -, hp⟩ := hp
    rcases hp with ⟨z1, z2, z3, z4⟩ | ⟨n, hn, z1, z2, z3, z4, z5, m0, z6⟩
    · refine ⟨M, ?_, ?_⟩
      · rw [z4, z2]
        unfold fX2_image
        rw [if_pos z1]
      · rw [z3]; exact hI
    · obtain ⟨M2, e1, e2⟩ := op_image hI hn z3 z4 z5 m0 z6
      refine ⟨M2, ?_, e2⟩
      rw [z1, z2]; exact e1
  obtain ⟨M2, e2, hI2⟩ := h2
  replace hk := hk2
  refine lw_al2 hk dL_law_1031 ?_
  refine lw_arg hk 1 ic_1 ⟨by omega, hi.2⟩ dL_law_1032 dL_law_1033 dL_law_1034 dL_law_1035 dL_law_1036 ?_
  refine lw_cl 1 hk lc_L_132 (by omega) (kX2_image _ _ (xs (i + 1))) e2 rfl rfl rfl rfl (rest := [.int r]) rfl (Nat.le_of_ble_eq_true rfl) dL_law_1037 (by omega) (by omega) ?_
  refine lw_eq hk (r := r) dL_law_1040 rfl ?_
  exact hbrk _ M2 hk hI2
theorem lcase_28 {κ : LX} {Ln : Nat} {xs : Nat → Int32} {G : am_G} {M : am_M} {i cells slots : Nat} (hk : LK κ Ln xs G) (hI : Inv G.2.2.2.1 M) (hi : i + 6 ≤ Ln ∧ Ln ≤ 384) (hc : cells ≤ 599000) (hs : slots ≤ 7300000) (hbrk : ∀ (G' : am_G) (M' : am_M), LK κ Ln xs G' → Inv G'.2.2.2.1 M' → LW κ G' M' i (cells + 13) (slots + 121) 1091 []) : LW κ G M i cells slots 1045 [] := by
  obtain ⟨r, M1, M2, e1, e2, hI2⟩ := op_restore hI (xs (i + 1))
  refine lw_al1 hk dL_law_1045 ?_
  refine lw_arg hk 1 ic_1 ⟨by omega, hi.2⟩ dL_law_1046 dL_law_1047 dL_law_1048 dL_law_1049 dL_law_1050 ?_
  refine lw_cl 0 hk lc_L_133 (by omega) (kX0_restore G M (xs (i + 1))) e1 rfl rfl rfl rfl (rest := []) rfl (Nat.le_of_ble_eq_true rfl) dL_law_1051 (by omega) (by omega) ?_
  refine lw_al2 hk dL_law_1054 ?_
  refine lw_arg hk 1 ic_1 ⟨by omega, hi.2⟩ dL_law_1055 dL_law_1056 dL_law_1057 dL_law_1058 dL_law_1059 ?_
  refine lw_cl 1 hk lc_L_136 (by omega) (kX2_restore G M1 (xs (i + 1))) e2 rfl rfl rfl rfl (rest := [.int r]) rfl (Nat.le_of_ble_eq_true rfl) dL_law_1060 (by omega) (by omega) ?_
  refine lw_eq hk (r := r) dL_law_1063 rfl ?_
  exact LW_wd (hbrk G M2 hk hI2)
theorem lcase_29 {κ : LX} {Ln : Nat} {xs : Nat → Int32} {G : am_G} {M : am_M} {i cells slots : Nat} (hk : LK κ Ln xs G) (hI : Inv G.2.2.2.1 M) (hi : i + 6 ≤ Ln ∧ Ln ≤ 384) (hc : cells ≤ 599000) (hs : slots ≤ 7300000) (hbrk : ∀ (G' : am_G) (M' : am_M), LK κ Ln xs G' → Inv G'.2.2.2.1 M' → LW κ G' M' i (cells + 13) (slots + 121) 1091 []) : LW κ G M i cells slots 1068 [] := by
  obtain ⟨r, M2, e1, e2, hI2⟩ := op_told hI (xs (i + 1))
  refine lw_al1 hk dL_law_1068 ?_
  refine lw_arg hk 1 ic_1 ⟨by omega, hi.2⟩ dL_law_1069 dL_law_1070 dL_law_1071 dL_law_1072 dL_law_1073 ?_
  refine lw_cl 0 hk lc_L_137 (by omega) (kX0_told G M (xs (i + 1))) e1 rfl rfl rfl rfl (rest := []) rfl (Nat.le_of_ble_eq_true rfl) dL_law_1074 (by omega) (by omega) ?_
  refine lw_al2 hk dL_law_1077 ?_
  refine lw_arg hk 1 ic_1 ⟨by omega, hi.2⟩ dL_law_1078 dL_law_1079 dL_law_1080 dL_law_1081 dL_law_1082 ?_
  refine lw_cl 1 hk lc_L_140 (by omega) (kX2_told G M (xs (i + 1))) e2 rfl rfl rfl rfl (rest := [.int r]) rfl (Nat.le_of_ble_eq_true rfl) dL_law_1083 (by omega) (by omega) ?_
  refine lw_eq hk (r := r) dL_law_1086 rfl ?_
  exact LW_wd (hbrk G M2 hk hI2)
