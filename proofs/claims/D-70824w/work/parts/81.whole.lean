/-! THE LAW: its loop and its start, printed by gen/whole.py -/
set_option maxRecDepth 100000
theorem df0 : ∀ k, k < 18 → defaultValue (tyX0 k) = vp_V (dfl 0) k := by
  intro k hk
  match k, hk with
  | 0, _ => rfl
  | 1, _ => rfl
  | 2, _ => rfl
  | 3, _ => rfl
  | 4, _ => rfl
  | 5, _ => rfl
  | 6, _ => rfl
  | 7, _ => rfl
  | 8, _ => rfl
  | 9, _ => rfl
  | 10, _ => rfl
  | 11, _ => rfl
  | 12, _ => rfl
  | 13, _ => rfl
  | 14, _ => rfl
  | 15, _ => rfl
  | 16, _ => rfl
  | 17, _ => rfl
  | k + 18, h => omega
theorem df2 : ∀ k, k < 24 → defaultValue (tyX2 k) = vp_V (dfl 2) k := by
  intro k hk
  match k, hk with
  | 0, _ => rfl
  | 1, _ => rfl
  | 2, _ => rfl
  | 3, _ => rfl
  | 4, _ => rfl
  | 5, _ => rfl
  | 6, _ => rfl
  | 7, _ => rfl
  | 8, _ => rfl
  | 9, _ => rfl
  | 10, _ => rfl
  | 11, _ => rfl
  | 12, _ => rfl
  | 13, _ => rfl
  | 14, _ => rfl
  | 15, _ => rfl
  | 16, _ => rfl
  | 17, _ => rfl
  | 18, _ => rfl
  | 19, _ => rfl
  | 20, _ => rfl
  | 21, _ => rfl
  | 22, _ => rfl
  | 23, _ => rfl
  | k + 24, h => omega
theorem lt_len {Ln i : Nat} (h1 : Ln ≤ 384) (h2 : i ≤ 400) : (Int32.ofNat Ln - 6 < nI i) ↔ Ln < i + 6 := by
  have e := pk_sub_toInt (a := Ln) (b := 6) (by omega) (by omega)
  have e2 : (nI i).toInt = i := nI_toInt (by omega)
  rw [Int32.lt_iff_toInt_lt]
  show (nI Ln - nI 6).toInt < (nI i).toInt ↔ _
  rw [e, e2]
  omega
/-- the switch -/
theorem lw_sw {κ : LX} {Ln : Nat} {xs : Nat → Int32} {G : am_G} {M : am_M} {i cells slots : Nat} (hk : LK κ Ln xs G) (hI : Inv G.2.2.2.1 M) (hi : i + 6 ≤ Ln ∧ Ln ≤ 384) (hc : cells ≤ 599000) (hs : slots ≤ 7300000) (hbrk : ∀ (G' : am_G) (M' : am_M), LK κ Ln xs G' → Inv G'.2.2.2.1 M' → LW κ G' M' i (cells + 13) (slots + 121) 1091 []) (n : Nat) (hn : n < 32) : LW κ G M i cells slots 33 [.int (nI n)] := by
  intro H locs ls hP hD hS hl
  have hx := hk.1.1
  have hb := hk.1.2.1
  match n, hn with
  | 0, _ => exact lv_tableIn (tgt := 168) hx hb dL_law_33 (by decide) (by decide) rfl rfl (lcase_0 hk hI hi hc hs hbrk H locs ls hP hD hS hl)
  | 1, _ => exact lv_tableIn (tgt := 227) hx hb dL_law_33 (by decide) (by decide) rfl rfl (lcase_1 hk hI hi hc hs hbrk H locs ls hP hD hS hl)
  | 2, _ => exact lv_tableIn (tgt := 286) hx hb dL_law_33 (by decide) (by decide) rfl rfl (lcase_2 hk hI hi hc hs hbrk H locs ls hP hD hS hl)
  | 3, _ => exact lv_tableIn (tgt := 349) hx hb dL_law_33 (by decide) (by decide) rfl rfl (lcase_3 hk hI hi hc hs hbrk H locs ls hP hD hS hl)
  | 4, _ => exact lv_tableIn (tgt := 382) hx hb dL_law_33 (by decide) (by decide) rfl rfl (lcase_4 hk hI hi hc hs hbrk H locs ls hP hD hS hl)
  | 5, _ => exact lv_tableIn (tgt := 405) hx hb dL_law_33 (by decide) (by decide) rfl rfl (lcase_5 hk hI hi hc hs hbrk H locs ls hP hD hS hl)
  | 6, _ => exact lv_tableIn (tgt := 428) hx hb dL_law_33 (by decide) (by decide) rfl rfl (lcase_6 hk hI hi hc hs hbrk H locs ls hP hD hS hl)
  | 7, _ => exact lv_tableIn (tgt := 441) hx hb dL_law_33 (by decide) (by decide) rfl rfl (lcase_7 hk hI hi hc hs hbrk H locs ls hP hD hS hl)
  | 8, _ => exact lv_tableIn (tgt := 454) hx hb dL_law_33 (by decide) (by decide) rfl rfl (lcase_8 hk hI hi hc hs hbrk H locs ls hP hD hS hl)
  | 9, _ => exact lv_tableIn (tgt := 477) hx hb dL_law_33 (by decide) (by decide) rfl rfl (lcase_9 hk hI hi hc hs hbrk H locs ls hP hD hS hl)
  | 10, _ => exact lv_tableIn (tgt := 490) hx hb dL_law_33 (by decide) (by decide) rfl rfl (lcase_10 hk hI hi hc hs hbrk H locs ls hP hD hS hl)
  | 11, _ => exact lv_tableIn (tgt := 523) hx hb dL_law_33 (by decide) (by decide) rfl rfl (lcase_11 hk hI hi hc hs hbrk H locs ls hP hD hS hl)
  | 12, _ => exact lv_tableIn (tgt := 556) hx hb dL_law_33 (by decide) (by decide) rfl rfl (lcase_12 hk hI hi hc hs hbrk H locs ls hP hD hS hl)
  | 13, _ => exact lv_tableIn (tgt := 579) hx hb dL_law_33 (by decide) (by decide) rfl rfl (lcase_13 hk hI hi hc hs hbrk H locs ls hP hD hS hl)
  | 14, _ => exact lv_tableIn (tgt := 602) hx hb dL_law_33 (by decide) (by decide) rfl rfl (lcase_14 hk hI hi hc hs hbrk H locs ls hP hD hS hl)
  | 15, _ => exact lv_tableIn (tgt := 615) hx hb dL_law_33 (by decide) (by decide) rfl rfl (lcase_15 hk hI hi hc hs hbrk H locs ls hP hD hS hl)
  | 16, _ => exact lv_tableIn (tgt := 658) hx hb dL_law_33 (by decide) (by decide) rfl rfl (lcase_16 hk hI hi hc hs hbrk H locs ls hP hD hS hl)
  | 17, _ => exact lv_tableIn (tgt := 691) hx hb dL_law_33 (by decide) (by decide) rfl rfl (lcase_17 hk hI hi hc hs hbrk H locs ls hP hD hS hl)
  | 18, _ => exact lv_tableIn (tgt := 714) hx hb dL_law_33 (by decide) (by decide) rfl rfl (lcase_18 hk hI hi hc hs hbrk H locs ls hP hD hS hl)
  | 19, _ => exact lv_tableIn (tgt := 727) hx hb dL_law_33 (by decide) (by decide) rfl rfl (lcase_19 hk hI hi hc hs hbrk H locs ls hP hD hS hl)
  | 20, _ => exact lv_tableIn (tgt := 770) hx hb dL_law_33 (by decide) (by decide) rfl rfl (lcase_20 hk hI hi hc hs hbrk H locs ls hP hD hS hl)
  | 21, _ => exact lv_tableIn (tgt := 823) hx hb dL_law_33 (by decide) (by decide) rfl rfl (lcase_21 hk hI hi hc hs hbrk H locs ls hP hD hS hl)
  | 22, _ => exact lv_tableIn (tgt := 856) hx hb dL_law_33 (by decide) (by decide) rfl rfl (lcase_22 hk hI hi hc hs hbrk H locs ls hP hD hS hl)
  | 23, _ => exact lv_tableIn (tgt := 869) hx hb dL_law_33 (by decide) (by decide) rfl rfl (lcase_23 hk hI hi hc hs hbrk H locs ls hP hD hS hl)
  | 24, _ => exact lv_tableIn (tgt := 892) hx hb dL_law_33 (by decide) (by decide) rfl rfl (lcase_24 hk hI hi hc hs hbrk H locs ls hP hD hS hl)
  | 25, _ => exact lv_tableIn (tgt := 915) hx hb dL_law_33 (by decide) (by decide) rfl rfl (lcase_25 hk hI hi hc hs hbrk H locs ls hP hD hS hl)
  | 26, _ => exact lv_tableIn (tgt := 979) hx hb dL_law_33 (by decide) (by decide) rfl rfl (lcase_26 hk hI hi hc hs hbrk H locs ls hP hD hS hl)
  | 27, _ => exact lv_tableIn (tgt := 1022) hx hb dL_law_33 (by decide) (by decide) rfl rfl (lcase_27 hk hI hi hc hs hbrk H locs ls hP hD hS hl)
  | 28, _ => exact lv_tableIn (tgt := 1045) hx hb dL_law_33 (by decide) (by decide) rfl rfl (lcase_28 hk hI hi hc hs hbrk H locs ls hP hD hS hl)
  | 29, _ => exact lv_tableIn (tgt := 1068) hx hb dL_law_33 (by decide) (by decide) rfl rfl (lcase_29 hk hI hi hc hs hbrk H locs ls hP hD hS hl)
  | 30, _ => exact lv_tableOut (tgt := 1091) hx hb dL_law_33 (Or.inr (by decide)) rfl (LW_wd (hbrk G M hk hI) H locs ls hP hD hS hl)
  | 31, _ => exact lv_tableOut (tgt := 1091) hx hb dL_law_33 (Or.inr (by decide)) rfl (LW_wd (hbrk G M hk hI) H locs ls hP hD hS hl)
  | n + 32, h => exact absurd h (by omega)
theorem law_loop {κ : LX} {Ln : Nat} {xs : Nat → Int32} (hLn : Ln ≤ 384) : ∀ (r t : Nat) (G : am_G) (M : am_M), t + r = 65 → LK κ Ln xs G → Inv G.2.2.2.1 M → LW κ G M (6 * t) (54 + 13 * t) (12216 + 121 * t) 18 [] := by
  intro r
  induction r with
  | zero =>
    intro t G M ht hk hI H locs ls hP hD hS hl
    have hx := hk.1.1
    have hb := hk.1.2.1
    refine lv_iload_n hx hb dL_law_18 rfl (lv_at hl 0 rfl) ?_
    refine lv_aload_n hx hb dL_law_19 rfl (lv_at hl 3 rfl) ?_
    refine va_slen hx hb hk.1.2.2.2.2.2.2.1 hk.1.2.2.2.2.2.2.2.1 (lw_nA hk) hS dL_law_20 ?_
    refine lv_bipush hx hb dL_law_21 bp_6 ?_
    refine lv_isub hx hb dL_law_23 ?_
    refine lv_icmp_gt (tgt := 1097) hx hb dL_law_24 rfl (fun _ => ?_) (fun h => absurd ((lt_len hLn (by omega)).mpr (by omega)) h)
    refine lv_iconst hx hb dL_law_1097 ic_1 ?_
    refine va_forget (fun q hq => by have := hS.2.2 q hq; have h2 : G.2.2.2.2.2 ≤ q.base := this; rw [hk.2.2.2.1] at h2; exact h2) ?_
    exact W.widen (k := 600000) (n := 7302250) (by omega) (by omega) (lw_ret hx hb hk.1.2.2.1 hk.1.2.2.2.2.2.2.2.2.1 dL_law_1098)
  | succ r ih =>
    intro t G M ht hk hI H locs ls hP hD hS hl
    have hx := hk.1.1
    have hb := hk.1.2.1
    refine lv_iload_n hx hb dL_law_18 rfl (lv_at hl 0 rfl) ?_
    refine lv_aload_n hx hb dL_law_19 rfl (lv_at hl 3 rfl) ?_
    refine va_slen hx hb hk.1.2.2.2.2.2.2.1 hk.1.2.2.2.2.2.2.2.1 (lw_nA hk) hS dL_law_20 ?_
    refine lv_bipush hx hb dL_law_21 bp_6 ?_
    refine lv_isub hx hb dL_law_23 ?_
    refine lv_icmp_gt (tgt := 1097) hx hb dL_law_24 rfl (fun _ => ?_) (fun h => ?_)
    · refine lv_iconst hx hb dL_law_1097 ic_1 ?_
      refine va_forget (fun q hq => by have := hS.2.2 q hq; have h2 : G.2.2.2.2.2 ≤ q.base := this; rw [hk.2.2.2.1] at h2; exact h2) ?_
      exact W.widen (k := 600000) (n := 7302250) (by omega) (by omega) (lw_ret hx hb hk.1.2.2.1 hk.1.2.2.2.2.2.2.2.2.1 dL_law_1098)
    · have hi : 6 * t + 6 ≤ Ln := by
        have := (lt_len (Ln := Ln) (i := 6 * t) hLn (by omega)).not.mp h
        omega
      refine lv_aload_n hx hb dL_law_27 rfl (lv_at hl 3 rfl) ?_
      refine lv_iload_n hx hb dL_law_28 rfl (lv_at hl 0 rfl) ?_
      refine va_sld hx hb hk.1.2.2.2.2.2.2.1 hk.1.2.2.2.2.2.2.2.1 (lw_nA hk) hS (nI_in (show 6 * t < Ln by omega) (by omega)) dL_law_29 ?_
      refine lv_bipush hx hb dL_law_30 (v := 31) (by decide) ?_
      refine lv_iand hx hb dL_law_32 ?_
      obtain ⟨n, hn, en⟩ := pk_andE (xs (nI (6 * t)).toNatClampNeg) (m := 31) 5 (by decide)
      rw [en]
      refine lw_sw hk hI ⟨hi, hLn⟩ (by omega) (by omega) (fun G' M' hk' hI' => ?_) n hn H locs ls hP hD hS hl
      intro H' locs' ls' hP' hD' hS' hl'
      refine lv_iinc (k := 0) (x := nI (6 * t)) (v := nI (6 * (t + 1))) (lv' := [(3, .int (nI (6 * (t + 1)))), (2, .ref (G'.2.2.1 1 0)), (1, .ref (G'.2.2.1 0 0)), (0, .ref κ.2.2.2.2.2.1)]) hk'.1.1 hk'.1.2.1 dL_law_1091 hl' rfl ?_ (by omega) rfl (fun ls1 hl1 => ?_)
      · show nI (6 * t) + nI 6 = _
        rw [nI_add]
        rfl
      refine lv_goto (tgt := 18) hk'.1.1 hk'.1.2.1 dL_law_1094 rfl ?_
      exact W.cs (cells' := 54 + 13 * (t + 1)) (slots' := 12216 + 121 * (t + 1)) (by omega) (by omega) (ih (t + 1) G' M' (by omega) hk' hI' H' locs' ls1 hP' hD' hS' hl1)
/-- the tables' words at the start -/
theorem KN_0 (l : Launch) {s : State} {args : Array Value} (hts : ∀ w ∈ lw_tbl, w.before args s = true) : ∃ (D : va_G) (ac : Nat → ClassId), KN l D ac s := by
  have hta : ∀ w ∈ lw_all, w.before args s = true := fun w h => hts w (lw_all_tbl h)
  obtain ⟨c0, i0, k0⟩ := u_known hta in_X0 (hta _ q58)
  obtain ⟨c1, i1, k1⟩ := u_known hta in_X1 (hta _ q66)
  obtain ⟨c2, i2, k2⟩ := u_known hta in_X2 (hta _ q568)
  obtain ⟨a0, kA0, m0, x1, x2, x3⟩ := Cond.arrayClass_spec (hta _ q142)
  obtain ⟨a1, kA1, m1, y1, y2, y3⟩ := Cond.arrayClass_spec (hta _ q199)
  obtain ⟨a2, kA2, m2, z1, z2, z3⟩ := Cond.arrayClass_spec (hta _ q646)
  obtain ⟨m3, a3, kA3, w1, w2, w3, w4, w5⟩ := Cond.arrayOver_spec (hts _ q143)
  refine ⟨(fun n => if n = 0 then c0 else if n = 1 then c1 else c2, fun n => if n = 0 then i0 else if n = 1 then i1 else i2), (fun n => if n = 0 then a0 else if n = 1 then a1 else if n = 2 then a2 else a3), ⟨fun c q hq => ?_, fun k q hq => ?_⟩, ?_, ?_, fun h => by cases h⟩
  · match c, hq with
    | 0, hq => cases hq; exact k0
    | 1, hq => cases hq; exact k1
    | 2, hq => cases hq; exact k2
    | c + 3, hq => simp [am_cl] at hq
  · match k, hq with
    | 0, hq => cases hq; exact ⟨fun n z => ⟨fun k h => (by cases h), kA0, x2, m0, x3⟩, x1⟩
    | 1, hq => cases hq; exact ⟨fun n z => ⟨fun k h => (by cases h), kA1, y2, m1, y3⟩, y1⟩
    | 2, hq => cases hq; exact ⟨fun n z => ⟨fun k h => (by cases h), kA2, z2, m2, z3⟩, z1⟩
    | 3, hq => cases hq; exact ⟨fun n z => ⟨fun k h => (by cases h), kA3, w3, m3, w4⟩, kA3, m3, w3, w4, w1, w5⟩
    | k + 4, hq => simp [am_tys] at hq
  · exact List.forall_mem_cons.mpr ⟨va_Nw.of rfl (hts _ q75), List.forall_mem_cons.mpr ⟨va_Nw.of rfl (hts _ q77), List.forall_mem_cons.mpr ⟨va_Nw.of rfl (hts _ q79), List.forall_mem_cons.mpr ⟨va_Nw.of rfl (hts _ q81), List.forall_mem_cons.mpr ⟨va_Nw.of rfl (hts _ q83), List.forall_mem_cons.mpr ⟨va_Nw.of rfl (hts _ q85), List.forall_mem_cons.mpr ⟨va_Nw.of rfl (hts _ q87), List.forall_mem_cons.mpr ⟨va_Nw.of rfl (hts _ q89), List.forall_mem_cons.mpr ⟨va_Nw.of rfl (hts _ q91), List.forall_mem_cons.mpr ⟨va_Nw.of rfl (hts _ q93), List.forall_mem_cons.mpr ⟨va_Nw.of rfl (hts _ q95), List.forall_mem_cons.mpr ⟨va_Nw.of rfl (hts _ q97), List.forall_mem_cons.mpr ⟨va_Nw.of rfl (hts _ q99), List.forall_mem_cons.mpr ⟨va_Nw.of rfl (hts _ q101), List.forall_mem_cons.mpr ⟨va_Nw.of rfl (hts _ q103), List.forall_mem_cons.mpr ⟨va_Nw.of rfl (hts _ q105), fun _ h => absurd h List.not_mem_nil⟩⟩⟩⟩⟩⟩⟩⟩⟩⟩⟩⟩⟩⟩⟩⟩
  · exact List.forall_mem_cons.mpr ⟨va_Nw.of rfl (hts _ q71), List.forall_mem_cons.mpr ⟨va_Nw.of rfl (hts _ q249), List.forall_mem_cons.mpr ⟨va_Nw.of rfl (hts _ q302), List.forall_mem_cons.mpr ⟨va_Nw.of rfl (hts _ q317), List.forall_mem_cons.mpr ⟨va_Nw.of rfl (hts _ q342), fun _ h => absurd h List.not_mem_nil⟩⟩⟩⟩⟩
set_option maxHeartbeats 4000000 in
/-- from the entry, for every script of at most 384 ints, the law comes to its end with true -/
theorem whole_start {p : Program} {e : Env} {s : State} {m : MethodId} {below : List Frame} {meth : Method} {c : Code} (l : Launch) {b L : Nat} {xs : Nat → Int32} (hL : L ≤ 384) (C0 : lw_At p s m meth c b L xs) : W p l e room_1 s m #[Value.ref b] below meth c s.heap [] 0 0 (lw_Z below #[Value.ref b] s) (entryFrame m ([Value.ref b] : List Value).toArray 4) := by
  obtain ⟨D, ac, hKN⟩ := KN_0 l C0.2.2.2.2.2.1
  have hts0 := C0.2.2.2.2.2.1
  have hts : ∀ w ∈ lw_all, w.before #[Value.ref b] s = true := fun w h => hts0 w (lw_all_tbl h)
  have hx := C0.1
  have hb := C0.2.1
  have cx : iC mL p s m #[Value.ref b] meth c := ⟨C0.1, C0.2.1, C0.2.2.1, C0.2.2.2.2.2.2.2.2.1, C0.2.2.2.1, C0.2.2.2.2.1, hts⟩
  have hl := lv_entry ([Value.ref b]) (n := 4) (Nat.le_of_ble_eq_true rfl)
  rw [lg_entry_eq]
  generalize (lg_sl ([Value.ref b]) ++ List.replicate (4 - (lg_sl ([Value.ref b])).length) Slot.unset).toArray = ls at hl ⊢
  have hl : lv_has ls 4 [(0, .ref b)] := hl
  have hS : va_S (fun x => s.heap.size ≤ x) s.heap s.heap [] := va_S.rf
  refine raw_new (D := D) (ac := ac) (ci := 0) (C := RX0) (T := TX0) (N := 18) (ty := tyX0) cx hKN rfl in_X0 tyX0_ok (idx := 7) q57 q58 q51 df0 (Nat.le_of_ble_eq_true rfl) (Nat.le_of_ble_eq_true rfl) dL_law_0 ?_
  intro H1 hat z1 o1
  refine lv_dup hx hb dL_law_3 rfl ?_
  have hS1 : va_S (fun x => s.heap.size ≤ x) s.heap H1 [] := ⟨by omega, fun x h1 h2 => o1 x h1, fun _ h => by cases h⟩
  refine va_callv (A0 := fun x => s.heap.size ≤ x) (A1 := fun x => s.heap.size ≤ x) (va_runI (As := []) (b := s.heap.size) (rest := [.ref s.heap.size]) (nL := 4) ⟨hx, hb, C0.2.2.2.1, C0.2.2.2.2.1, hts⟩ (kX0_init l D ac s.heap.size) (cwI 0 hts (lw_meth q61) rfl rfl rfl (hts _ q51) (hts _ q59) (hts _ q60) rfl (by decide +kernel) ⟨Nat.le_of_ble_eq_true rfl, Nat.le_of_ble_eq_true rfl⟩) ⟨sy_blind, fun U hU hW => ⟨rfl, by rw [hU]; exact hat, KN_warm hW hKN, va_AO.moved hW.alike (va_AO.of (hts0 _ q143))⟩⟩ rfl rfl hl.1 rfl (lv_room (Nat.le_of_ble_eq_true rfl)) dL_law_4 ⟨Nat.le_of_ble_eq_true rfl, Nat.le_of_ble_eq_true rfl⟩) hS1 (fun x _ h => h) (fun x h => h) ?_
  intro ad0 t0 H2 locs2 ht0 _ ha0 hWd0 hz2 hk2 hS2
  have hP0 : va_P D am_cl (am_ws (l, D, ad0, sL, ac, s.heap.size) sysM) H2 := by rw [← ht0]; exact hWd0.1
  have hD0 : va_D (fun x => s.heap.size ≤ x) (am_ws (l, D, ad0, sL, ac, s.heap.size) sysM) := hWd0.2.1
  refine lv_astore_n (lv' := [(1, .ref s.heap.size), (0, .ref b)]) hx hb dL_law_7 rfl hl (by omega) rfl (fun ls1 hl1 => ?_)
  refine raw_new (D := D) (ac := ac) (ci := 2) (C := RX2) (T := TX2) (N := 24) (ty := tyX2) cx hKN rfl in_X2 tyX2_ok (idx := 10) q567 q568 q53 df2 (Nat.le_of_ble_eq_true rfl) (Nat.le_of_ble_eq_true rfl) dL_law_8 ?_
  intro H3 hat3 z3 o3
  refine lv_dup hx hb dL_law_11 rfl ?_
  have hge : s.heap.size ≤ H2.size := hS2.1
  have hS3 : va_S (fun x => s.heap.size ≤ x) s.heap H3 locs2 := ⟨by omega, fun x h1 h2 => (o3 x (by omega)).trans (hS2.2.1 x h1 h2), hS2.2.2⟩
  refine va_callv (A0 := fun x => s.heap.size ≤ x) (A1 := fun x => H2.size ≤ x) (va_runI (As := []) (b := H2.size) (rest := [.ref H2.size]) (nL := 4) ⟨hx, hb, C0.2.2.2.1, C0.2.2.2.2.1, hts⟩ (kX2_init l D ac H2.size) (cwI 0 hts (lw_meth q571) rfl rfl rfl (hts _ q53) (hts _ q569) (hts _ q570) rfl (by decide +kernel) ⟨Nat.le_of_ble_eq_true rfl, Nat.le_of_ble_eq_true rfl⟩) ⟨in_blind, fun U hU hW => ⟨rfl, by rw [hU]; exact hat3, KN_warm hW hKN⟩⟩ rfl rfl hl1.1 rfl (lv_room (Nat.le_of_ble_eq_true rfl)) dL_law_12 ⟨Nat.le_of_ble_eq_true rfl, Nat.le_of_ble_eq_true rfl⟩) hS3 (fun x _ h => Nat.le_trans hge h) (fun x h => Nat.le_trans hge h) ?_
  intro ad1 t1 H4 locs4 ht1 _ ha1 hWd1 hz4 hk4 hS4
  have hP1 : va_P D am_cl (am_ws (l, D, ad1, oL 1, ac, H2.size) modM) H4 := by rw [← ht1]; exact hWd1.1
  have hP0' : va_P D am_cl (am_ws (l, D, ad0, sL, ac, s.heap.size) sysM) H4 := P_of (fun y hy => (P_mem hP0 hy).kept (by
    have h1 := (P_mem hP0 hy).lt
    rw [hk4 y.1 (by omega) (by omega), o3 y.1 h1]))
  obtain ⟨hP, hD⟩ := law_world (z := s.heap.size) hP0' hD0 hP1 hWd1.2.1 (fun c hc => am_lt hP0 hc) (Nat.le_refl _) hge
  refine lv_astore_n (lv' := [(2, .ref H2.size), (1, .ref s.heap.size), (0, .ref b)]) hx hb dL_law_15 rfl hl1 (by omega) rfl (fun ls2 hl2 => ?_)
  refine lv_iconst hx hb dL_law_16 ic_0 ?_
  refine lv_istore_n (lv' := [(3, .int (nI 0)), (2, .ref H2.size), (1, .ref s.heap.size), (0, .ref b)]) hx hb dL_law_17 rfl hl2 (by omega) rfl (fun ls3 hl3 => ?_)
  have hLK : LK (p, l, e, s, m, b, below, meth, c) L xs (l, D, va_up ad0 1 (ad1 1), lawL, ac, s.heap.size) := ⟨C0, KN_to hKN (fun _ => ⟨rfl, rfl⟩), rfl, rfl, fun j hj => by
    match j, hj with
    | 0, _ => rfl
    | 1, _ => rfl
    | 2, _ => rfl
    | 3, _ => rfl
    | j + 4, h => exact absurd h (by omega)⟩
  refine law_loop hL 65 0 _ lawM rfl hLK Inv_0 H4 locs4 ls3 hP hD hS4 ?_
  show lv_has ls3 4 [(3, .int (nI 0)), (2, .ref (ad1 1 0)), (1, .ref (ad0 0 0)), (0, .ref b)]
  rw [ha1, ha0]
  exact hl3
