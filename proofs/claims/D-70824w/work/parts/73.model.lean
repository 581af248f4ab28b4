/-! CONSTRUCTOR of the reference, printed by gen/inits.py -/
set_option maxRecDepth 100000
abbrev mX2_init : am_Q := (yX2_init, cX2_init, 2, none)
theorem sp_220 : (Int16.ofInt 220).toInt32 = (220 : Int32) := by decide
/-- the new reference's memory -/
def modM : am_M := lpM (lpM mz 1 0 (fun _ => -6) 8) 1 7 (fun x => nI x) 10
set_option maxHeartbeats 8000000 in
theorem kX2_init (l : Launch) (D : va_G) (ac : Nat → ClassId) (a : Nat) : Met l yX2_init (ws_ yX2_init cX2_init 2 none) (rmI 3 16 10559) (va_Pc [.ref a] (fun U => va_at D am_cl (a, .inr (2, dfl 2)) U.heap ∧ KN l D ac U)) (va_Qv (S := Nat → Nat → Nat) (fun ad => ad 1 0 = a) (fun ad t => am_Wd (l, D, ad, oL 1, ac, a) modM t) (fun x => a ≤ x)) 16 10559 (fun x => a ≤ x) := by
  refine Met.ofW (cc := cX2_init) (maxL := 2) (ret := none) (by decide) rfl ?_
  intro p e s m args below meth c s₁ B hml hv
  obtain ⟨rfl, hat, hKN⟩ := hv
  have hts := atoms_spec (ws := ws_ yX2_init cX2_init 2 none) B.pre
  have hts : ∀ w ∈ lw_all, w.before _ s = true := fun w h => hts w (List.mem_cons_of_mem _ h)
  have hown : s.vm.findClass RX2 = some m.cls := findClass_of_methodNamed B.named
  have hin : meth.name = "<init>" := (name_of_methodNamed B.named B.method).1
  have cx : iC mX2_init p s m _ meth c := ⟨B.exec, B.bytes, B.returns, B.notSynchronized, hml, hown, hts⟩
  have hx := B.exec
  have hb := B.bytes
  have hr := B.returns
  have hlocks := B.notSynchronized
  have hl := lv_entry ([.ref a]) (n := 2) (Nat.le_of_ble_eq_true rfl)
  rw [lg_entry_eq]
  generalize (lg_sl ([.ref a]) ++ List.replicate (2 - (lg_sl ([.ref a])).length) Slot.unset).toArray = ls at hl ⊢
  have hl : lv_has ls 2 [(0, .ref a)] := hl
  refine lv_aload_n hx hb dX2_init_0 rfl (lv_at hl 0 rfl) ?_
  refine W.objInit hx hb hown (hts _ q572) (hts _ q63) (hts _ q64) rfl (by rw [hml]; exact hl.1) rfl dX2_init_1 (Nat.le_of_ble_eq_true rfl) (Nat.le_of_ble_eq_true rfl) ?_
  refine W.eq (g2 := F0 m 4 ls []) rfl ?_
  have hA : ∀ x, s.heap.size ≤ x → a ≤ x := fun x hx => Nat.le_trans (Nat.le_of_lt hat.lt) hx
  have hP : va_P D am_cl (pws (l, D, fun _ _ => a, oL 1, ac, a) mz 1 [] [] []) s.heap := P_of (fun q hq => by
    rw [show q = (a, .inr (am_cls 1, pf (fun _ _ => a) mz 1 [])) by simpa [pws] using hq, pf_nil]
    exact hat)
  have hD : va_D (fun x => a ≤ x) (pws (l, D, fun _ _ => a, oL 1, ac, a) mz 1 [] [] []) := by
    refine ⟨fun i i2 u v hu hv _ => ?_, fun k q hq => ?_⟩
    · have := (List.getElem?_eq_some_iff.mp hu).1
      have := (List.getElem?_eq_some_iff.mp hv).1
      simp only [pws, List.length_cons, List.length_append, List.length_map, List.length_nil] at *
      omega
    · have := List.mem_of_getElem? hq
      rw [show q = (a, .inr (am_cls 1, pf (fun _ _ => a) mz 1 [])) by simpa [pws] using this]
      exact Nat.le_refl _
  have hS : va_S (fun x => a ≤ x) s.heap s.heap [] := va_S.rf
  have h0 : ls[0]? = some (.val (.ref a)) := lv_at hl 0 rfl
  have ha : (fun _ _ => a : Nat → Nat → Nat) 1 0 = a := rfl
  generalize (fun _ _ => a : Nat → Nat → Nat) = ad at hP hD h0 ha
  replace h0 : ls[0]? = some (.val (.ref (ad 1 0))) := by rw [ha]; exact lv_at hl 0 rfl
  refine ini_arr (C := RX2) (T := TX2) (N := 24) (ty0 := tyX2) cx hin hKN hP hD hS hA rfl rfl in_X2 tyX2_ok nmX2 rfl h0 0 1 36 (by decide) rfl (Or.inl rfl) (by decide) (by decide) rfl rfl (idx := 7) q573 (atype := .int) (ety := .int) rfl rfl (fun c1 c2 h1 h2 => Option.some.inj (h1.symm.trans h2)) rfl (by decide) q142 rfl (fun x => ⟨rfl, rfl⟩) (v := 36) (pn := 7) ⟨by decide, by decide⟩ (by decide) dX2_init_4 (fun st h => lv_bipush hx hb dX2_init_5 bp_36 h) dX2_init_7 dX2_init_9 (Nat.le_of_ble_eq_true rfl) (Nat.le_of_ble_eq_true rfl) ?_
  clear hP hD hS
  intro ad1 H1 locs1 e0 e1 hP hD hS
  have h0 : ls[0]? = some (.val (.ref (ad1 1 0))) := by rw [e0]; exact h0
  have ha : ad1 1 0 = a := by rw [e0]; exact ha
  clear e0 e1
  refine ini_arr (C := RX2) (T := TX2) (N := 24) (ty0 := tyX2) cx hin hKN hP hD hS hA rfl rfl in_X2 tyX2_ok nmX2 rfl h0 1 1 36 (by decide) rfl (Or.inl rfl) (by decide) (by decide) rfl rfl (idx := 13) q574 (atype := .int) (ety := .int) rfl rfl (fun c1 c2 h1 h2 => Option.some.inj (h1.symm.trans h2)) rfl (by decide) q142 rfl (fun x => ⟨rfl, rfl⟩) (v := 36) (pn := 15) ⟨by decide, by decide⟩ (by decide) dX2_init_12 (fun st h => lv_bipush hx hb dX2_init_13 bp_36 h) dX2_init_15 dX2_init_17 (Nat.le_of_ble_eq_true rfl) (Nat.le_of_ble_eq_true rfl) ?_
  clear hP hD hS
  intro ad1 H1 locs1 e0 e1 hP hD hS
  have h0 : ls[0]? = some (.val (.ref (ad1 1 0))) := by rw [e0]; exact h0
  have ha : ad1 1 0 = a := by rw [e0]; exact ha
  clear e0 e1
  refine ini_arr (C := RX2) (T := TX2) (N := 24) (ty0 := tyX2) cx hin hKN hP hD hS hA rfl rfl in_X2 tyX2_ok nmX2 rfl h0 3 1 8 (by decide) rfl (Or.inl rfl) (by decide) (by decide) rfl rfl (idx := 16) q576 (atype := .int) (ety := .int) rfl rfl (fun c1 c2 h1 h2 => Option.some.inj (h1.symm.trans h2)) rfl (by decide) q142 rfl (fun x => ⟨rfl, rfl⟩) (v := 8) (pn := 23) ⟨by decide, by decide⟩ (by decide) dX2_init_20 (fun st h => lv_bipush hx hb dX2_init_21 bp_8 h) dX2_init_23 dX2_init_25 (Nat.le_of_ble_eq_true rfl) (Nat.le_of_ble_eq_true rfl) ?_
  clear hP hD hS
  intro ad1 H1 locs1 e0 e1 hP hD hS
  have h0 : ls[0]? = some (.val (.ref (ad1 1 0))) := by rw [e0]; exact h0
  have ha : ad1 1 0 = a := by rw [e0]; exact ha
  clear e0 e1
  refine ini_arr (C := RX2) (T := TX2) (N := 24) (ty0 := tyX2) cx hin hKN hP hD hS hA rfl rfl in_X2 tyX2_ok nmX2 rfl h0 4 1 8 (by decide) rfl (Or.inl rfl) (by decide) (by decide) rfl rfl (idx := 19) q577 (atype := .int) (ety := .int) rfl rfl (fun c1 c2 h1 h2 => Option.some.inj (h1.symm.trans h2)) rfl (by decide) q142 rfl (fun x => ⟨rfl, rfl⟩) (v := 8) (pn := 31) ⟨by decide, by decide⟩ (by decide) dX2_init_28 (fun st h => lv_bipush hx hb dX2_init_29 bp_8 h) dX2_init_31 dX2_init_33 (Nat.le_of_ble_eq_true rfl) (Nat.le_of_ble_eq_true rfl) ?_
  clear hP hD hS
  intro ad1 H1 locs1 e0 e1 hP hD hS
  have h0 : ls[0]? = some (.val (.ref (ad1 1 0))) := by rw [e0]; exact h0
  have ha : ad1 1 0 = a := by rw [e0]; exact ha
  clear e0 e1
  refine ini_arr (C := RX2) (T := TX2) (N := 24) (ty0 := tyX2) cx hin hKN hP hD hS hA rfl rfl in_X2 tyX2_ok nmX2 rfl h0 5 1 8 (by decide) rfl (Or.inl rfl) (by decide) (by decide) rfl rfl (idx := 22) q578 (atype := .int) (ety := .int) rfl rfl (fun c1 c2 h1 h2 => Option.some.inj (h1.symm.trans h2)) rfl (by decide) q142 rfl (fun x => ⟨rfl, rfl⟩) (v := 8) (pn := 39) ⟨by decide, by decide⟩ (by decide) dX2_init_36 (fun st h => lv_bipush hx hb dX2_init_37 bp_8 h) dX2_init_39 dX2_init_41 (Nat.le_of_ble_eq_true rfl) (Nat.le_of_ble_eq_true rfl) ?_
  clear hP hD hS
  intro ad1 H1 locs1 e0 e1 hP hD hS
  have h0 : ls[0]? = some (.val (.ref (ad1 1 0))) := by rw [e0]; exact h0
  have ha : ad1 1 0 = a := by rw [e0]; exact ha
  clear e0 e1
  refine ini_arr (C := RX2) (T := TX2) (N := 24) (ty0 := tyX2) cx hin hKN hP hD hS hA rfl rfl in_X2 tyX2_ok nmX2 rfl h0 6 1 10 (by decide) rfl (Or.inl rfl) (by decide) (by decide) rfl rfl (idx := 25) q579 (atype := .int) (ety := .int) rfl rfl (fun c1 c2 h1 h2 => Option.some.inj (h1.symm.trans h2)) rfl (by decide) q142 rfl (fun x => ⟨rfl, rfl⟩) (v := 10) (pn := 47) ⟨by decide, by decide⟩ (by decide) dX2_init_44 (fun st h => lv_bipush hx hb dX2_init_45 bp_10 h) dX2_init_47 dX2_init_49 (Nat.le_of_ble_eq_true rfl) (Nat.le_of_ble_eq_true rfl) ?_
  clear hP hD hS
  intro ad1 H1 locs1 e0 e1 hP hD hS
  have h0 : ls[0]? = some (.val (.ref (ad1 1 0))) := by rw [e0]; exact h0
  have ha : ad1 1 0 = a := by rw [e0]; exact ha
  clear e0 e1
  refine ini_arr (C := RX2) (T := TX2) (N := 24) (ty0 := tyX2) cx hin hKN hP hD hS hA rfl rfl in_X2 tyX2_ok nmX2 rfl h0 7 1 10 (by decide) rfl (Or.inl rfl) (by decide) (by decide) rfl rfl (idx := 28) q580 (atype := .int) (ety := .int) rfl rfl (fun c1 c2 h1 h2 => Option.some.inj (h1.symm.trans h2)) rfl (by decide) q142 rfl (fun x => ⟨rfl, rfl⟩) (v := 10) (pn := 55) ⟨by decide, by decide⟩ (by decide) dX2_init_52 (fun st h => lv_bipush hx hb dX2_init_53 bp_10 h) dX2_init_55 dX2_init_57 (Nat.le_of_ble_eq_true rfl) (Nat.le_of_ble_eq_true rfl) ?_
  clear hP hD hS
  intro ad1 H1 locs1 e0 e1 hP hD hS
  have h0 : ls[0]? = some (.val (.ref (ad1 1 0))) := by rw [e0]; exact h0
  have ha : ad1 1 0 = a := by rw [e0]; exact ha
  clear e0 e1
  refine ini_arr (C := RX2) (T := TX2) (N := 24) (ty0 := tyX2) cx hin hKN hP hD hS hA rfl rfl in_X2 tyX2_ok nmX2 rfl h0 10 1 16 (by decide) rfl (Or.inl rfl) (by decide) (by decide) rfl rfl (idx := 31) q583 (atype := .int) (ety := .int) rfl rfl (fun c1 c2 h1 h2 => Option.some.inj (h1.symm.trans h2)) rfl (by decide) q142 rfl (fun x => ⟨rfl, rfl⟩) (v := 16) (pn := 63) ⟨by decide, by decide⟩ (by decide) dX2_init_60 (fun st h => lv_bipush hx hb dX2_init_61 bp_16 h) dX2_init_63 dX2_init_65 (Nat.le_of_ble_eq_true rfl) (Nat.le_of_ble_eq_true rfl) ?_
  clear hP hD hS
  intro ad1 H1 locs1 e0 e1 hP hD hS
  have h0 : ls[0]? = some (.val (.ref (ad1 1 0))) := by rw [e0]; exact h0
  have ha : ad1 1 0 = a := by rw [e0]; exact ha
  clear e0 e1
  refine ini_arr (C := RX2) (T := TX2) (N := 24) (ty0 := tyX2) cx hin hKN hP hD hS hA rfl rfl in_X2 tyX2_ok nmX2 rfl h0 12 1 60 (by decide) rfl (Or.inl rfl) (by decide) (by decide) rfl rfl (idx := 34) q585 (atype := .int) (ety := .int) rfl rfl (fun c1 c2 h1 h2 => Option.some.inj (h1.symm.trans h2)) rfl (by decide) q142 rfl (fun x => ⟨rfl, rfl⟩) (v := 60) (pn := 71) ⟨by decide, by decide⟩ (by decide) dX2_init_68 (fun st h => lv_bipush hx hb dX2_init_69 bp_60 h) dX2_init_71 dX2_init_73 (Nat.le_of_ble_eq_true rfl) (Nat.le_of_ble_eq_true rfl) ?_
  clear hP hD hS
  intro ad1 H1 locs1 e0 e1 hP hD hS
  have h0 : ls[0]? = some (.val (.ref (ad1 1 0))) := by rw [e0]; exact h0
  have ha : ad1 1 0 = a := by rw [e0]; exact ha
  clear e0 e1
  refine ini_arr (C := RX2) (T := TX2) (N := 24) (ty0 := tyX2) cx hin hKN hP hD hS hA rfl rfl in_X2 tyX2_ok nmX2 rfl h0 15 1 10 (by decide) rfl (Or.inl rfl) (by decide) (by decide) rfl rfl (idx := 37) q588 (atype := .int) (ety := .int) rfl rfl (fun c1 c2 h1 h2 => Option.some.inj (h1.symm.trans h2)) rfl (by decide) q142 rfl (fun x => ⟨rfl, rfl⟩) (v := 10) (pn := 79) ⟨by decide, by decide⟩ (by decide) dX2_init_76 (fun st h => lv_bipush hx hb dX2_init_77 bp_10 h) dX2_init_79 dX2_init_81 (Nat.le_of_ble_eq_true rfl) (Nat.le_of_ble_eq_true rfl) ?_
  clear hP hD hS
  intro ad1 H1 locs1 e0 e1 hP hD hS
  have h0 : ls[0]? = some (.val (.ref (ad1 1 0))) := by rw [e0]; exact h0
  have ha : ad1 1 0 = a := by rw [e0]; exact ha
  clear e0 e1
  refine ini_arr (C := RX2) (T := TX2) (N := 24) (ty0 := tyX2) cx hin hKN hP hD hS hA rfl rfl in_X2 tyX2_ok nmX2 rfl h0 18 1 10 (by decide) rfl (Or.inl rfl) (by decide) (by decide) rfl rfl (idx := 40) q591 (atype := .int) (ety := .int) rfl rfl (fun c1 c2 h1 h2 => Option.some.inj (h1.symm.trans h2)) rfl (by decide) q142 rfl (fun x => ⟨rfl, rfl⟩) (v := 10) (pn := 87) ⟨by decide, by decide⟩ (by decide) dX2_init_84 (fun st h => lv_bipush hx hb dX2_init_85 bp_10 h) dX2_init_87 dX2_init_89 (Nat.le_of_ble_eq_true rfl) (Nat.le_of_ble_eq_true rfl) ?_
  clear hP hD hS
  intro ad1 H1 locs1 e0 e1 hP hD hS
  have h0 : ls[0]? = some (.val (.ref (ad1 1 0))) := by rw [e0]; exact h0
  have ha : ad1 1 0 = a := by rw [e0]; exact ha
  clear e0 e1
  refine ini_arr (C := RX2) (T := TX2) (N := 24) (ty0 := tyX2) cx hin hKN hP hD hS hA rfl rfl in_X2 tyX2_ok nmX2 rfl h0 19 3 10000 (by decide) rfl (Or.inr (Or.inr rfl)) (by decide) (by decide) rfl rfl (idx := 43) q592 (atype := .boolean) (ety := .boolean) rfl rfl (fun c1 c2 h1 h2 => Option.some.inj (h1.symm.trans h2)) rfl (by decide) q646 rfl (fun x => ⟨rfl, rfl⟩) (v := 10000) (pn := 96) ⟨by decide, by decide⟩ (by decide) dX2_init_92 (fun st h => lv_sipush hx hb dX2_init_93 sp_10000 h) dX2_init_96 dX2_init_98 (Nat.le_of_ble_eq_true rfl) (Nat.le_of_ble_eq_true rfl) ?_
  clear hP hD hS
  intro ad1 H1 locs1 e0 e1 hP hD hS
  have h0 : ls[0]? = some (.val (.ref (ad1 1 0))) := by rw [e0]; exact h0
  have ha : ad1 1 0 = a := by rw [e0]; exact ha
  clear e0 e1
  refine ini_arr (C := RX2) (T := TX2) (N := 24) (ty0 := tyX2) cx hin hKN hP hD hS hA rfl rfl in_X2 tyX2_ok nmX2 rfl h0 20 1 100 (by decide) rfl (Or.inl rfl) (by decide) (by decide) rfl rfl (idx := 47) q593 (atype := .int) (ety := .int) rfl rfl (fun c1 c2 h1 h2 => Option.some.inj (h1.symm.trans h2)) rfl (by decide) q142 rfl (fun x => ⟨rfl, rfl⟩) (v := 100) (pn := 104) ⟨by decide, by decide⟩ (by decide) dX2_init_101 (fun st h => lv_bipush hx hb dX2_init_102 bp_100 h) dX2_init_104 dX2_init_106 (Nat.le_of_ble_eq_true rfl) (Nat.le_of_ble_eq_true rfl) ?_
  clear hP hD hS
  intro ad1 H1 locs1 e0 e1 hP hD hS
  have h0 : ls[0]? = some (.val (.ref (ad1 1 0))) := by rw [e0]; exact h0
  have ha : ad1 1 0 = a := by rw [e0]; exact ha
  clear e0 e1
  refine ini_arr (C := RX2) (T := TX2) (N := 24) (ty0 := tyX2) cx hin hKN hP hD hS hA rfl rfl in_X2 tyX2_ok nmX2 rfl h0 21 1 25 (by decide) rfl (Or.inl rfl) (by decide) (by decide) rfl rfl (idx := 50) q594 (atype := .int) (ety := .int) rfl rfl (fun c1 c2 h1 h2 => Option.some.inj (h1.symm.trans h2)) rfl (by decide) q142 rfl (fun x => ⟨rfl, rfl⟩) (v := 25) (pn := 112) ⟨by decide, by decide⟩ (by decide) dX2_init_109 (fun st h => lv_bipush hx hb dX2_init_110 bp_25 h) dX2_init_112 dX2_init_114 (Nat.le_of_ble_eq_true rfl) (Nat.le_of_ble_eq_true rfl) ?_
  clear hP hD hS
  intro ad1 H1 locs1 e0 e1 hP hD hS
  have h0 : ls[0]? = some (.val (.ref (ad1 1 0))) := by rw [e0]; exact h0
  have ha : ad1 1 0 = a := by rw [e0]; exact ha
  clear e0 e1
  refine ini_arr (C := RX2) (T := TX2) (N := 24) (ty0 := tyX2) cx hin hKN hP hD hS hA rfl rfl in_X2 tyX2_ok nmX2 rfl h0 22 1 220 (by decide) rfl (Or.inl rfl) (by decide) (by decide) rfl rfl (idx := 53) q595 (atype := .int) (ety := .int) rfl rfl (fun c1 c2 h1 h2 => Option.some.inj (h1.symm.trans h2)) rfl (by decide) q142 rfl (fun x => ⟨rfl, rfl⟩) (v := 220) (pn := 121) ⟨by decide, by decide⟩ (by decide) dX2_init_117 (fun st h => lv_sipush hx hb dX2_init_118 sp_220 h) dX2_init_121 dX2_init_123 (Nat.le_of_ble_eq_true rfl) (Nat.le_of_ble_eq_true rfl) ?_
  clear hP hD hS
  intro ad1 H1 locs1 e0 e1 hP hD hS
  have h0 : ls[0]? = some (.val (.ref (ad1 1 0))) := by rw [e0]; exact h0
  have ha : ad1 1 0 = a := by rw [e0]; exact ha
  clear e0 e1
  refine ini_arr (C := RX2) (T := TX2) (N := 24) (ty0 := tyX2) cx hin hKN hP hD hS hA rfl rfl in_X2 tyX2_ok nmX2 rfl h0 23 3 2 (by decide) rfl (Or.inr (Or.inr rfl)) (by decide) (by decide) rfl rfl (idx := 56) q596 (atype := .boolean) (ety := .boolean) rfl rfl (fun c1 c2 h1 h2 => Option.some.inj (h1.symm.trans h2)) rfl (by decide) q646 rfl (fun x => ⟨rfl, rfl⟩) (v := 2) (pn := 128) ⟨by decide, by decide⟩ (by decide) dX2_init_126 (fun st h => lv_iconst hx hb dX2_init_127 ic_2 h) dX2_init_128 dX2_init_130 (Nat.le_of_ble_eq_true rfl) (Nat.le_of_ble_eq_true rfl) ?_
  clear hP hD hS
  intro ad1 H1 locs1 e0 e1 hP hD hS
  have h0 : ls[0]? = some (.val (.ref (ad1 1 0))) := by rw [e0]; exact h0
  have ha : ad1 1 0 = a := by rw [e0]; exact ha
  clear e0 e1
  have hids : am_ids (oL 1) = (1, 0) :: ([] ++ [0] ++ [1] ++ [3] ++ [4] ++ [5] ++ [6] ++ [7] ++ [10] ++ [12] ++ [15] ++ [18] ++ [19] ++ [20] ++ [21] ++ [22] ++ [23]).map (fun k => (1, k + 1)) := by decide +kernel
  rw [pws_full (by decide +kernel) hids] at hP hD
  rename Nat → Nat → Nat => ad
  have hK : am_Kn (l, D, ad, oL 1, ac, a) s := KN_to hKN (fun z => by cases z)
  have hl : lv_has ls 2 [(0, .ref (ad 1 0))] := by rw [ha]; exact hl
  refine lv_iconst hx hb dX2_init_133 ic_0 ?_
  refine lv_istore_n (lv' := [(1, .int (nI 0)), (0, .ref (ad 1 0))]) hx hb dX2_init_134 rfl hl (by omega) rfl (fun ls1 hl1 => ?_)
  refine ini_loop (G := (l, D, ad, oL 1, ac, a)) (M := mz) (j := 1) (k := 0) (n := 8) cx hK (fun _ => -6) (N := 36) lf_X2_7 rfl ⟨by omega, by omega⟩ (by rw [hids]; decide) (by rw [hids]; decide) (by omega) (nn := 8) bp_8 (p1 := 148) (tgt := 155) dX2_init_135 dX2_init_136 dX2_init_138 rfl dX2_init_141 dX2_init_142 dX2_init_145 (fun i H locs ls st hl h => lv_bipush hx hb dX2_init_146 bp_m6 h) dX2_init_148 dX2_init_149 dX2_init_152 rfl ?_ 8 0 _ _ ls1 rfl (by rw [lpM_0]; exact hP) (by rw [lpM_0]; exact hD) hS hl1
  clear hP hD hS
  intro H locs ls hP hD hS hl
  refine lv_iconst hx hb dX2_init_155 ic_0 ?_
  refine lv_istore_n (lv' := [(1, .int (nI 0)), (0, .ref (ad 1 0))]) hx hb dX2_init_156 rfl hl (by omega) rfl (fun ls1 hl1 => ?_)
  refine ini_loop (G := (l, D, ad, oL 1, ac, a)) (M := lpM mz 1 0 (fun _ => -6) 8) (j := 1) (k := 7) (n := 10) cx hK (fun x => nI x) (N := 10) lf_X2_28 rfl ⟨by omega, by omega⟩ (by rw [hids]; decide) (by rw [hids]; decide) (by omega) (nn := 10) bp_10 (p1 := 169) (tgt := 176) dX2_init_157 dX2_init_158 dX2_init_160 rfl dX2_init_163 dX2_init_164 dX2_init_167 (fun i H locs ls st hl h => lv_iload_n hx hb dX2_init_168 rfl (lv_at hl 0 rfl) h) dX2_init_169 dX2_init_170 dX2_init_173 rfl ?_ 10 0 _ _ ls1 rfl (by rw [lpM_0]; exact hP) (by rw [lpM_0]; exact hD) hS hl1
  clear hP hD hS
  intro H locs ls hP hD hS hl
  refine W.cs (cells' := 16) (slots' := 10559) rfl rfl ?_
  exact W.vret hx hb hr (fun t' ht' hW => ⟨⟨ad, rfl, ha, by rw [ht']; exact hP, hD, am_Kn_warm hW hK⟩, hS.F ht'⟩) hS.2.2 dX2_init_176
