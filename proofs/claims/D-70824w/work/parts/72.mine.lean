/-! CONSTRUCTOR of a mine, printed by gen/inits.py -/
set_option maxRecDepth 100000
abbrev mX1_init : am_Q := (yX1_init, cX1_init, 2, none)
def rmI (d mc ms : Nat) : Room := { frames := d, cells := mc, slots := ms, locals := 30 * d }
def oL (j : Nat) : Nat → Bool := fun i => decide (i = j)
/-- a new mine's memory, as object 2 -/
def mineM : am_M := lpM (lpM mz 2 1 (fun x => nI x) 10) 2 11 (fun _ => -6) 8
theorem lc_X1_48 : am_kM 48 mX0_fill 2 := ⟨lw_meth q73, q72, q51, rfl, by decide +kernel, by decide +kernel⟩
theorem fill_lp (M : am_M) (j k n : Nat) (v : Int32) (hn : n ≤ 1000) : fX0_fill M j k n v = some (lpM M j k (fun _ => v) n) := by
  unfold fX0_fill
  have e : am_it (fX0_fill_L2 j k n v) am_fuel ((0 : Int32), M) = some (nI n, lpM M j k (fun _ => v) n) := by
    have e0 : ((0 : Int32), M) = (nI 0, lpM M j k (fun _ => v) 0) := by rw [lpM_0]; rfl
    rw [e0]
    refine it_run0 (F := fX0_fill_L2 j k n v) (fun i => (nI i, lpM M j k (fun _ => v) i)) n (by omega) (fun i hi rec => ?_) (fun rec => ?_)
    · unfold fX0_fill_L2
      have nl : ¬ Int32.ofNat n ≤ nI i := nI_ge (a := i) (b := n) hi (by omega)
      simp only [if_neg nl, nI_add1]
      rw [wr_n hi (by omega), Option.bind_some, ← lpM_s]
    · unfold fX0_fill_L2
      simp only [if_pos (show Int32.ofNat n ≤ nI n from Int32.le_refl _)]
  rw [e, Option.bind_some]
theorem in_blind {a : List Value} {D : va_G} {ac : Nat → ClassId} {l : Launch} {z : Nat × va_E} : FrameBlind (va_Pc a (fun U => va_at D am_cl z U.heap ∧ KN l D ac U)) := fun a' U g mk h => by
  obtain ⟨h1, h2, h3⟩ := h
  exact ⟨h1, h2, am_Kn_same (s := U) (U := U.calling g mk a') rfl h3⟩
set_option maxHeartbeats 8000000 in
theorem kX1_init (l : Launch) (D : va_G) (ac : Nat → ClassId) (a : Nat) : Met l yX1_init (ws_ yX1_init cX1_init 2 none) (rmI 3 12 104) (va_Pc [.ref a] (fun U => va_at D am_cl (a, .inr (1, dfl 1)) U.heap ∧ KN l D ac U)) (va_Qv (S := Nat → Nat → Nat) (fun ad => ad 2 0 = a) (fun ad t => am_Wd (l, D, ad, oL 2, ac, a) mineM t) (fun x => a ≤ x)) 12 104 (fun x => a ≤ x) := by
  refine Met.ofW (cc := cX1_init) (maxL := 2) (ret := none) (by decide) rfl ?_
  intro p e s m args below meth c s₁ B hml hv
  obtain ⟨rfl, hat, hKN⟩ := hv
  have hts := atoms_spec (ws := ws_ yX1_init cX1_init 2 none) B.pre
  have hts : ∀ w ∈ lw_all, w.before _ s = true := fun w h => hts w (List.mem_cons_of_mem _ h)
  have hown : s.vm.findClass RX1 = some m.cls := findClass_of_methodNamed B.named
  have hin : meth.name = "<init>" := (name_of_methodNamed B.named B.method).1
  have cx : iC mX1_init p s m _ meth c := ⟨B.exec, B.bytes, B.returns, B.notSynchronized, hml, hown, hts⟩
  have hx := B.exec
  have hb := B.bytes
  have hr := B.returns
  have hlocks := B.notSynchronized
  have hl := lv_entry ([.ref a]) (n := 2) (Nat.le_of_ble_eq_true rfl)
  rw [lg_entry_eq]
  generalize (lg_sl ([.ref a]) ++ List.replicate (2 - (lg_sl ([.ref a])).length) Slot.unset).toArray = ls at hl ⊢
  have hl : lv_has ls 2 [(0, .ref a)] := hl
  refine lv_aload_n hx hb dX1_init_0 rfl (lv_at hl 0 rfl) ?_
  refine W.objInit hx hb hown (hts _ q70) (hts _ q63) (hts _ q64) rfl (by rw [hml]; exact hl.1) rfl dX1_init_1 (Nat.le_of_ble_eq_true rfl) (Nat.le_of_ble_eq_true rfl) ?_
  refine W.eq (g2 := F0 m 4 ls []) rfl ?_
  have hA : ∀ x, s.heap.size ≤ x → a ≤ x := fun x hx => Nat.le_trans (Nat.le_of_lt hat.lt) hx
  have hP : va_P D am_cl (pws (l, D, fun _ _ => a, oL 2, ac, a) mz 2 [] [] []) s.heap := P_of (fun q hq => by
    rw [show q = (a, .inr (am_cls 2, pf (fun _ _ => a) mz 2 [])) by simpa [pws] using hq, pf_nil]
    exact hat)
  have hD : va_D (fun x => a ≤ x) (pws (l, D, fun _ _ => a, oL 2, ac, a) mz 2 [] [] []) := by
    refine ⟨fun i i2 u v hu hv _ => ?_, fun k q hq => ?_⟩
    · have := (List.getElem?_eq_some_iff.mp hu).1
      have := (List.getElem?_eq_some_iff.mp hv).1
      simp only [pws, List.length_cons, List.length_append, List.length_map, List.length_nil] at *
      omega
    · have := List.mem_of_getElem? hq
      rw [show q = (a, .inr (am_cls 2, pf (fun _ _ => a) mz 2 [])) by simpa [pws] using this]
      exact Nat.le_refl _
  have hS : va_S (fun x => a ≤ x) s.heap s.heap [] := va_S.rf
  have h0 : ls[0]? = some (.val (.ref a)) := lv_at hl 0 rfl
  have ha : (fun _ _ => a : Nat → Nat → Nat) 2 0 = a := rfl
  generalize (fun _ _ => a : Nat → Nat → Nat) = ad at hP hD h0 ha
  replace h0 : ls[0]? = some (.val (.ref (ad 2 0))) := by rw [ha]; exact lv_at hl 0 rfl
  refine ini_arr (C := RX1) (T := TX1) (N := 17) (ty0 := tyX1) cx hin hKN hP hD hS hA rfl rfl in_X1 tyX1_ok nmX1 rfl h0 0 1 10 (by decide) rfl (Or.inl rfl) (by decide) (by decide) rfl rfl (idx := 9) q74 (atype := .int) (ety := .int) rfl rfl (fun c1 c2 h1 h2 => Option.some.inj (h1.symm.trans h2)) rfl (by decide) q142 rfl (fun x => ⟨rfl, rfl⟩) (v := 10) (pn := 7) ⟨by decide, by decide⟩ (by decide) dX1_init_4 (fun st h => lv_bipush hx hb dX1_init_5 bp_10 h) dX1_init_7 dX1_init_9 (Nat.le_of_ble_eq_true rfl) (Nat.le_of_ble_eq_true rfl) ?_
  clear hP hD hS
  intro ad1 H1 locs1 e0 e1 hP hD hS
  have h0 : ls[0]? = some (.val (.ref (ad1 2 0))) := by rw [e0]; exact h0
  have ha : ad1 2 0 = a := by rw [e0]; exact ha
  clear e0 e1
  refine ini_arr (C := RX1) (T := TX1) (N := 17) (ty0 := tyX1) cx hin hKN hP hD hS hA rfl rfl in_X1 tyX1_ok nmX1 rfl h0 1 1 10 (by decide) rfl (Or.inl rfl) (by decide) (by decide) rfl rfl (idx := 15) q76 (atype := .int) (ety := .int) rfl rfl (fun c1 c2 h1 h2 => Option.some.inj (h1.symm.trans h2)) rfl (by decide) q142 rfl (fun x => ⟨rfl, rfl⟩) (v := 10) (pn := 15) ⟨by decide, by decide⟩ (by decide) dX1_init_12 (fun st h => lv_bipush hx hb dX1_init_13 bp_10 h) dX1_init_15 dX1_init_17 (Nat.le_of_ble_eq_true rfl) (Nat.le_of_ble_eq_true rfl) ?_
  clear hP hD hS
  intro ad1 H1 locs1 e0 e1 hP hD hS
  have h0 : ls[0]? = some (.val (.ref (ad1 2 0))) := by rw [e0]; exact h0
  have ha : ad1 2 0 = a := by rw [e0]; exact ha
  clear e0 e1
  refine ini_arr (C := RX1) (T := TX1) (N := 17) (ty0 := tyX1) cx hin hKN hP hD hS hA rfl rfl in_X1 tyX1_ok nmX1 rfl h0 2 1 10 (by decide) rfl (Or.inl rfl) (by decide) (by decide) rfl rfl (idx := 18) q78 (atype := .int) (ety := .int) rfl rfl (fun c1 c2 h1 h2 => Option.some.inj (h1.symm.trans h2)) rfl (by decide) q142 rfl (fun x => ⟨rfl, rfl⟩) (v := 10) (pn := 23) ⟨by decide, by decide⟩ (by decide) dX1_init_20 (fun st h => lv_bipush hx hb dX1_init_21 bp_10 h) dX1_init_23 dX1_init_25 (Nat.le_of_ble_eq_true rfl) (Nat.le_of_ble_eq_true rfl) ?_
  clear hP hD hS
  intro ad1 H1 locs1 e0 e1 hP hD hS
  have h0 : ls[0]? = some (.val (.ref (ad1 2 0))) := by rw [e0]; exact h0
  have ha : ad1 2 0 = a := by rw [e0]; exact ha
  clear e0 e1
  refine ini_arr (C := RX1) (T := TX1) (N := 17) (ty0 := tyX1) cx hin hKN hP hD hS hA rfl rfl in_X1 tyX1_ok nmX1 rfl h0 6 1 8 (by decide) rfl (Or.inl rfl) (by decide) (by decide) rfl rfl (idx := 21) q86 (atype := .int) (ety := .int) rfl rfl (fun c1 c2 h1 h2 => Option.some.inj (h1.symm.trans h2)) rfl (by decide) q142 rfl (fun x => ⟨rfl, rfl⟩) (v := 8) (pn := 31) ⟨by decide, by decide⟩ (by decide) dX1_init_28 (fun st h => lv_bipush hx hb dX1_init_29 bp_8 h) dX1_init_31 dX1_init_33 (Nat.le_of_ble_eq_true rfl) (Nat.le_of_ble_eq_true rfl) ?_
  clear hP hD hS
  intro ad1 H1 locs1 e0 e1 hP hD hS
  have h0 : ls[0]? = some (.val (.ref (ad1 2 0))) := by rw [e0]; exact h0
  have ha : ad1 2 0 = a := by rw [e0]; exact ha
  clear e0 e1
  refine ini_arr (C := RX1) (T := TX1) (N := 17) (ty0 := tyX1) cx hin hKN hP hD hS hA rfl rfl in_X1 tyX1_ok nmX1 rfl h0 7 1 8 (by decide) rfl (Or.inl rfl) (by decide) (by decide) rfl rfl (idx := 24) q88 (atype := .int) (ety := .int) rfl rfl (fun c1 c2 h1 h2 => Option.some.inj (h1.symm.trans h2)) rfl (by decide) q142 rfl (fun x => ⟨rfl, rfl⟩) (v := 8) (pn := 39) ⟨by decide, by decide⟩ (by decide) dX1_init_36 (fun st h => lv_bipush hx hb dX1_init_37 bp_8 h) dX1_init_39 dX1_init_41 (Nat.le_of_ble_eq_true rfl) (Nat.le_of_ble_eq_true rfl) ?_
  clear hP hD hS
  intro ad1 H1 locs1 e0 e1 hP hD hS
  have h0 : ls[0]? = some (.val (.ref (ad1 2 0))) := by rw [e0]; exact h0
  have ha : ad1 2 0 = a := by rw [e0]; exact ha
  clear e0 e1
  refine ini_arr (C := RX1) (T := TX1) (N := 17) (ty0 := tyX1) cx hin hKN hP hD hS hA rfl rfl in_X1 tyX1_ok nmX1 rfl h0 8 1 8 (by decide) rfl (Or.inl rfl) (by decide) (by decide) rfl rfl (idx := 27) q90 (atype := .int) (ety := .int) rfl rfl (fun c1 c2 h1 h2 => Option.some.inj (h1.symm.trans h2)) rfl (by decide) q142 rfl (fun x => ⟨rfl, rfl⟩) (v := 8) (pn := 47) ⟨by decide, by decide⟩ (by decide) dX1_init_44 (fun st h => lv_bipush hx hb dX1_init_45 bp_8 h) dX1_init_47 dX1_init_49 (Nat.le_of_ble_eq_true rfl) (Nat.le_of_ble_eq_true rfl) ?_
  clear hP hD hS
  intro ad1 H1 locs1 e0 e1 hP hD hS
  have h0 : ls[0]? = some (.val (.ref (ad1 2 0))) := by rw [e0]; exact h0
  have ha : ad1 2 0 = a := by rw [e0]; exact ha
  clear e0 e1
  refine ini_arr (C := RX1) (T := TX1) (N := 17) (ty0 := tyX1) cx hin hKN hP hD hS hA rfl rfl in_X1 tyX1_ok nmX1 rfl h0 9 1 8 (by decide) rfl (Or.inl rfl) (by decide) (by decide) rfl rfl (idx := 30) q92 (atype := .int) (ety := .int) rfl rfl (fun c1 c2 h1 h2 => Option.some.inj (h1.symm.trans h2)) rfl (by decide) q142 rfl (fun x => ⟨rfl, rfl⟩) (v := 8) (pn := 55) ⟨by decide, by decide⟩ (by decide) dX1_init_52 (fun st h => lv_bipush hx hb dX1_init_53 bp_8 h) dX1_init_55 dX1_init_57 (Nat.le_of_ble_eq_true rfl) (Nat.le_of_ble_eq_true rfl) ?_
  clear hP hD hS
  intro ad1 H1 locs1 e0 e1 hP hD hS
  have h0 : ls[0]? = some (.val (.ref (ad1 2 0))) := by rw [e0]; exact h0
  have ha : ad1 2 0 = a := by rw [e0]; exact ha
  clear e0 e1
  refine ini_arr (C := RX1) (T := TX1) (N := 17) (ty0 := tyX1) cx hin hKN hP hD hS hA rfl rfl in_X1 tyX1_ok nmX1 rfl h0 10 1 8 (by decide) rfl (Or.inl rfl) (by decide) (by decide) rfl rfl (idx := 33) q94 (atype := .int) (ety := .int) rfl rfl (fun c1 c2 h1 h2 => Option.some.inj (h1.symm.trans h2)) rfl (by decide) q142 rfl (fun x => ⟨rfl, rfl⟩) (v := 8) (pn := 63) ⟨by decide, by decide⟩ (by decide) dX1_init_60 (fun st h => lv_bipush hx hb dX1_init_61 bp_8 h) dX1_init_63 dX1_init_65 (Nat.le_of_ble_eq_true rfl) (Nat.le_of_ble_eq_true rfl) ?_
  clear hP hD hS
  intro ad1 H1 locs1 e0 e1 hP hD hS
  have h0 : ls[0]? = some (.val (.ref (ad1 2 0))) := by rw [e0]; exact h0
  have ha : ad1 2 0 = a := by rw [e0]; exact ha
  clear e0 e1
  refine ini_arr (C := RX1) (T := TX1) (N := 17) (ty0 := tyX1) cx hin hKN hP hD hS hA rfl rfl in_X1 tyX1_ok nmX1 rfl h0 11 1 8 (by decide) rfl (Or.inl rfl) (by decide) (by decide) rfl rfl (idx := 36) q96 (atype := .int) (ety := .int) rfl rfl (fun c1 c2 h1 h2 => Option.some.inj (h1.symm.trans h2)) rfl (by decide) q142 rfl (fun x => ⟨rfl, rfl⟩) (v := 8) (pn := 71) ⟨by decide, by decide⟩ (by decide) dX1_init_68 (fun st h => lv_bipush hx hb dX1_init_69 bp_8 h) dX1_init_71 dX1_init_73 (Nat.le_of_ble_eq_true rfl) (Nat.le_of_ble_eq_true rfl) ?_
  clear hP hD hS
  intro ad1 H1 locs1 e0 e1 hP hD hS
  have h0 : ls[0]? = some (.val (.ref (ad1 2 0))) := by rw [e0]; exact h0
  have ha : ad1 2 0 = a := by rw [e0]; exact ha
  clear e0 e1
  refine ini_arr (C := RX1) (T := TX1) (N := 17) (ty0 := tyX1) cx hin hKN hP hD hS hA rfl rfl in_X1 tyX1_ok nmX1 rfl h0 13 1 8 (by decide) rfl (Or.inl rfl) (by decide) (by decide) rfl rfl (idx := 39) q100 (atype := .int) (ety := .int) rfl rfl (fun c1 c2 h1 h2 => Option.some.inj (h1.symm.trans h2)) rfl (by decide) q142 rfl (fun x => ⟨rfl, rfl⟩) (v := 8) (pn := 79) ⟨by decide, by decide⟩ (by decide) dX1_init_76 (fun st h => lv_bipush hx hb dX1_init_77 bp_8 h) dX1_init_79 dX1_init_81 (Nat.le_of_ble_eq_true rfl) (Nat.le_of_ble_eq_true rfl) ?_
  clear hP hD hS
  intro ad1 H1 locs1 e0 e1 hP hD hS
  have h0 : ls[0]? = some (.val (.ref (ad1 2 0))) := by rw [e0]; exact h0
  have ha : ad1 2 0 = a := by rw [e0]; exact ha
  clear e0 e1
  refine ini_arr (C := RX1) (T := TX1) (N := 17) (ty0 := tyX1) cx hin hKN hP hD hS hA rfl rfl in_X1 tyX1_ok nmX1 rfl h0 14 1 8 (by decide) rfl (Or.inl rfl) (by decide) (by decide) rfl rfl (idx := 42) q102 (atype := .int) (ety := .int) rfl rfl (fun c1 c2 h1 h2 => Option.some.inj (h1.symm.trans h2)) rfl (by decide) q142 rfl (fun x => ⟨rfl, rfl⟩) (v := 8) (pn := 87) ⟨by decide, by decide⟩ (by decide) dX1_init_84 (fun st h => lv_bipush hx hb dX1_init_85 bp_8 h) dX1_init_87 dX1_init_89 (Nat.le_of_ble_eq_true rfl) (Nat.le_of_ble_eq_true rfl) ?_
  clear hP hD hS
  intro ad1 H1 locs1 e0 e1 hP hD hS
  have h0 : ls[0]? = some (.val (.ref (ad1 2 0))) := by rw [e0]; exact h0
  have ha : ad1 2 0 = a := by rw [e0]; exact ha
  clear e0 e1
  refine ini_arr (C := RX1) (T := TX1) (N := 17) (ty0 := tyX1) cx hin hKN hP hD hS hA rfl rfl in_X1 tyX1_ok nmX1 rfl h0 16 1 10 (by decide) rfl (Or.inl rfl) (by decide) (by decide) rfl rfl (idx := 45) q106 (atype := .int) (ety := .int) rfl rfl (fun c1 c2 h1 h2 => Option.some.inj (h1.symm.trans h2)) rfl (by decide) q142 rfl (fun x => ⟨rfl, rfl⟩) (v := 10) (pn := 95) ⟨by decide, by decide⟩ (by decide) dX1_init_92 (fun st h => lv_bipush hx hb dX1_init_93 bp_10 h) dX1_init_95 dX1_init_97 (Nat.le_of_ble_eq_true rfl) (Nat.le_of_ble_eq_true rfl) ?_
  clear hP hD hS
  intro ad1 H1 locs1 e0 e1 hP hD hS
  have h0 : ls[0]? = some (.val (.ref (ad1 2 0))) := by rw [e0]; exact h0
  have ha : ad1 2 0 = a := by rw [e0]; exact ha
  clear e0 e1
  have hids : am_ids (oL 2) = (2, 0) :: ([] ++ [0] ++ [1] ++ [2] ++ [6] ++ [7] ++ [8] ++ [9] ++ [10] ++ [11] ++ [13] ++ [14] ++ [16]).map (fun k => (2, k + 1)) := by decide +kernel
  rw [pws_full (by decide +kernel) hids] at hP hD
  rename Nat → Nat → Nat => ad
  have hK : am_Kn (l, D, ad, oL 2, ac, a) s := KN_to hKN (fun z => by cases z)
  have hl : lv_has ls 2 [(0, .ref (ad 2 0))] := by rw [ha]; exact hl
  refine lv_iconst hx hb dX1_init_100 ic_0 ?_
  refine lv_istore_n (lv' := [(1, .int (nI 0)), (0, .ref (ad 2 0))]) hx hb dX1_init_101 rfl hl (by omega) rfl (fun ls1 hl1 => ?_)
  refine ini_loop (G := (l, D, ad, oL 2, ac, a)) (M := mz) (j := 2) (k := 1) (n := 10) cx hK (fun x => nI x) (N := 10) lf_X1_15 rfl ⟨by omega, by omega⟩ (by rw [hids]; decide) (by rw [hids]; decide) (by omega) (nn := 10) bp_10 (p1 := 114) (tgt := 121) dX1_init_102 dX1_init_103 dX1_init_105 rfl dX1_init_108 dX1_init_109 dX1_init_112 (fun i H locs ls st hl h => lv_iload_n hx hb dX1_init_113 rfl (lv_at hl 0 rfl) h) dX1_init_114 dX1_init_115 dX1_init_118 rfl ?_ 10 0 _ _ ls1 rfl (by rw [lpM_0]; exact hP) (by rw [lpM_0]; exact hD) hS hl1
  clear hP hD hS
  intro H locs ls hP hD hS hl
  refine lv_aload_n hx hb dX1_init_121 rfl (lv_at hl 1 rfl) ?_
  refine raw_get cx hK hP (j := 2) (k := 11) lf_X1_36 (by rw [hids]; decide) (v := .ref (ad 2 12)) rfl dX1_init_122 ?_
  refine lv_bipush hx hb dX1_init_125 bp_m6 ?_
  have hfill := fill_lp (lpM mz 2 1 (fun x => nI x) 10) 2 11 8 (-6) (by omega)
  have hvs : am_vs (l, D, ad, oL 2, ac, a) [am_r 2 (11 + 1), am_i (-6)] := by
    intro v hv
    rcases List.mem_cons.mp hv with h | h
    · rw [h]; show (2, 12) ∈ am_ids (oL 2); rw [hids]; decide
    · rw [List.mem_singleton.mp h]; exact trivial
  have hMet := kX0_fill (l, D, ad, oL 2, ac, a) (lpM mz 2 1 (fun x => nI x) 10) 2 11 8 (-6) rfl _ hfill hvs
  obtain ⟨hG, hst1, hin1, hcl, hnm, hdsc⟩ := lc_X1_48
  have hnw := hK.2.2.1 _ hnm
  refine raw_run (A := fun x => a ≤ x) (va_runSN (As := [.ref (ad 2 12), .int (-6)]) (own := "SongLamps$Mine") (host := "SongLamps") (nL := 2) (n := 2) ⟨hx, hb, hml, hown, hts⟩ hMet ⟨va_cnB 2 hts hG rfl rfl rfl hnw (hts _ hin1) hdsc ⟨Nat.le_of_ble_eq_true rfl, Nat.le_of_ble_eq_true rfl⟩, hts _ hst1, trivial⟩ ⟨am_blind, fun U hU hW => ⟨rfl, by rw [hU]; exact hP, hD, am_Kn_warm hW hK⟩⟩ rfl rfl hl.1 rfl (lv_room (Nat.le_of_ble_eq_true rfl)) dX1_init_127 ⟨Nat.le_of_ble_eq_true rfl, Nat.le_of_ble_eq_true rfl⟩) hS (fun x _ h => h) (fun x h => h) ?_
  clear hP hD hS
  intro t H locs ht hWd hz hk hS
  refine W.cs (cells' := 12) (slots' := 104) rfl rfl ?_
  exact W.vret hx hb hr (fun t' ht' hW => ⟨⟨ad, rfl, ha, by rw [ht', ← ht]; exact hWd.1, hWd.2.1, am_Kn_warm hW hK⟩, hS.F ht'⟩) hS.2.2 dX1_init_130
