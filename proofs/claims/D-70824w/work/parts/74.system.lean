/-! CONSTRUCTOR of the system, printed by gen/sys.py -/
set_option maxRecDepth 100000
abbrev mX0_init : am_Q := (yX0_init, cX0_init, 1, none)
theorem df1 : ∀ k, k < 17 → defaultValue (tyX1 k) = vp_V (dfl 1) k := by
  intro k hk
  match k, hk with
  | 0, _ => rfl
  | 1, _ => rfl
  | 2, _ => rfl
  | 3, _ => rfl
  | 4, _ => rfl
  | 5, _ => rfl
  | 6, _ => rfl
  | 7, _ => rfl
  | 8, _ => rfl
  | 9, _ => rfl
  | 10, _ => rfl
  | 11, _ => rfl
  | 12, _ => rfl
  | 13, _ => rfl
  | 14, _ => rfl
  | 15, _ => rfl
  | 16, _ => rfl
  | k + 17, h => omega
/-- a new mine: new, dup, its constructor -/
theorem raw_mine {p : Program} {l : Launch} {e : Env} {R : Room} {s : State} {m : MethodId} {args : Array Value} {below : List Frame} {meth : Method} {c : Code} {H : Heap} {locs : List Loc} {cells slots : Nat} {Q : State → Prop} {q : am_Q} {pc : Nat} {ls : Array Slot} {rest : List Value} {A : Nat → Prop} {D : va_G} {ac : Nat → ClassId} (cx : iC q p s m args meth c) (hq : q.1.cls = "SongLamps") (hKN : KN l D ac s) (hS : va_S A s.heap H locs) (hA : ∀ x, s.heap.size ≤ x → A x) (hsz : ls.size = q.2.2.1) (hrest : (rest.map fun v => v.category).sum ≤ 7) (hfr : 4 ≤ R.frames) (hlo : 111 ≤ R.locals) (hc : cells + 13 ≤ R.cells) (hs : slots + 121 ≤ R.slots) (d0 : decode q.2.1 pc = .ok (.new 35, 3)) (d3 : decode q.2.1 (pc + 3) = .ok (.dup, 1)) (d4 : decode q.2.1 (pc + 3 + 1) = .ok (.invokespecial 37, 3))
    (kk : ∀ (ad1 : Nat → Nat → Nat) (H1 : Heap) (locs1 : List Loc), ad1 2 0 = H.size → va_P D am_cl (am_ws (l, D, ad1, oL 2, ac, H.size) mineM) H1 → va_D (fun x => H.size ≤ x) (am_ws (l, D, ad1, oL 2, ac, H.size) mineM) → H.size ≤ H1.size → (∀ x, x < H.size → H1[x]? = H[x]?) → va_S A s.heap H1 locs1 → W p l e R s m args below meth c H1 locs1 (cells + 1 + 12) (slots + 17 + 104) Q (F0 m (pc + 3 + 1 + 3) ls (.ref H.size :: rest))) : W p l e R s m args below meth c H locs cells slots Q (F0 m pc ls rest) := by
  have hts := cx.2.2.2.2.2.2
  refine raw_new (D := D) (ac := ac) (ci := 1) (C := RX1) (T := TX1) (N := 17) (ty := tyX1) cx hKN rfl in_X1 tyX1_ok (idx := 35) (by rw [hq]; exact q65) q66 q52 df1 (by omega) (by omega) d0 ?_
  intro H1 hat z1 o1
  refine lv_dup cx.1 cx.2.1 d3 rfl ?_
  have hS1 : va_S A s.heap H1 locs := ⟨by have := hS.1; omega, fun x h1 h2 => (o1 x (Nat.lt_of_lt_of_le h1 hS.1)).trans (hS.2.1 x h1 h2), hS.2.2⟩
  have hf : ∀ x, H.size ≤ x → A x := fun x h => hA x (Nat.le_trans hS.1 h)
  have hcw := cwI (R := R) (s := s) (args := args) (own := q.1.cls) (index := 37) (y := yX1_init) (bytes := cX1_init) (maxL := 2) (rm := rmI 3 12 104) (mc := 12) (ms := 104) 0 hts (lw_meth q69) rfl rfl rfl (hts _ q52) (hts _ (by rw [hq]; exact q67)) (hts _ q68) rfl (by decide +kernel) ⟨hfr, by show 8 + (2 + 11) + 30 * 3 ≤ R.locals; omega⟩
  refine va_callv (A0 := A) (A1 := fun x => H.size ≤ x) (va_runI (As := []) (b := H.size) (rest := .ref H.size :: rest) ⟨cx.1, cx.2.1, cx.2.2.2.2.1, cx.2.2.2.2.2.1, hts⟩ (kX1_init l D ac H.size) hcw ⟨in_blind, fun U hU hW => ⟨rfl, by rw [hU]; exact hat, KN_warm hW hKN⟩⟩ rfl rfl hsz rfl (lv_room (by rw [List.map_cons, List.sum_cons]; show 1 + _ ≤ 8; omega)) d4 ⟨by omega, by omega⟩) hS1 (fun x _ h => hf x h) hf ?_
  intro ad1 t H2 locs2 ht _ ha hWd hz hk hS2
  refine kk ad1 H2 locs2 ha (by rw [← ht]; exact hWd.1) hWd.2.1 (by omega) (fun x hx => ?_) hS2
  rw [hk x (by omega) (by omega), o1 x hx]
/-- which objects live at first -/
def sL : Nat → Bool := L6 true false true true false false
def sysM : am_M := fun j => if j = 2 ∨ j = 3 then mineM 2 else mz j
theorem ids_oL2 {c : Nat × Nat} (h : c ∈ am_ids (oL 2)) : c.1 = 2 := by
  obtain ⟨h1, -, -⟩ := am_ids_obj (j := c.1) (k := c.2) h
  simpa [oL] using h1
theorem map_at {ids : List (Nat × Nat)} {f : Nat × Nat → Nat × va_E} {A : Nat → Prop} (hD : va_D A (ids.map f)) {c c' : Nat × Nat} (hc : c ∈ ids) (hc' : c' ∈ ids) (e : (f c).1 = (f c').1) : c = c' := by
  obtain ⟨i, hi⟩ := List.getElem?_of_mem hc
  obtain ⟨j, hj⟩ := List.getElem?_of_mem hc'
  have := hD.1 i j (f c) (f c') (by rw [List.getElem?_map, hi]; rfl) (by rw [List.getElem?_map, hj]; rfl) e
  subst this
  exact Option.some.inj (hi.symm.trans hj)
/-- a world out of a list of its cells in any order -/
theorem am_mk' {G : am_G} {M : am_M} {H : Heap} {ids : List (Nat × Nat)} {A : Nat → Prop} (hP : va_P G.2.1 am_cl (ids.map (fun c => (G.2.2.1 c.1 c.2, am_ce G M c))) H) (hD : va_D A (ids.map (fun c => (G.2.2.1 c.1 c.2, am_ce G M c)))) (hA : ∀ x, A x → am_A G x) (hin : ∀ c ∈ am_ids G.2.2.2.1, c ∈ ids) : va_P G.2.1 am_cl (am_ws G M) H ∧ va_D (am_A G) (am_ws G M) := by
  refine am_mk (fun c hc => P_mem hP (List.mem_map.mpr ⟨c, hin c hc, rfl⟩)) (fun c hc c' hc' e => map_at hD (hin c hc) (hin c' hc') e) (fun c hc => hA _ (D_A hD (List.mem_map.mpr ⟨c, hin c hc, rfl⟩)))
/-- one of the system's own two mines -/
theorem ini_mine {p : Program} {l : Launch} {e : Env} {R : Room} {s : State} {m : MethodId} {args : Array Value} {below : List Frame} {meth : Method} {c : Code} {H : Heap} {locs : List Loc} {cells slots : Nat} {Q : State → Prop} {pc : Nat} {ls : Array Slot} {A : Nat → Prop} {D : va_G} {ad : Nat → Nat → Nat} {L : Nat → Bool} {ac : Nat → ClassId} {z : Nat} {fl : List Nat} {X : va_W} (cx : iC mX0_init p s m args meth c) (hin : meth.name = "<init>") (hKN : KN l D ac s)
    (hP : va_P D am_cl (pws (l, D, ad, L, ac, z) mz 0 fl [] X) H) (hD : va_D A (pws (l, D, ad, L, ac, z) mz 0 fl [] X)) (hS : va_S A s.heap H locs) (hA : ∀ x, s.heap.size ≤ x → A x) (hsz : ls.size = 1) (h0 : ls[0]? = some (.val (.ref (ad 0 0))))
    (k : Nat) (hk : k = 0 ∨ k = 1) (hfl : ∀ x ∈ fl, x < k) {idx : Nat} (hlk : Cond.fieldLink "SongLamps" idx "SongLamps" (TX0 k).2.1 (TX0 k).2.2.1 ∈ lw_all) (hfr : 4 ≤ R.frames) (hlo : 111 ≤ R.locals) (hc : cells + 13 ≤ R.cells) (hs : slots + 121 ≤ R.slots)
    (d0 : decode cX0_init pc = .ok (.aload_n 0, 1)) (d1 : decode cX0_init (pc + 1) = .ok (.new 35, 3)) (d2 : decode cX0_init (pc + 1 + 3) = .ok (.dup, 1)) (d3 : decode cX0_init (pc + 1 + 3 + 1) = .ok (.invokespecial 37, 3)) (d4 : decode cX0_init (pc + 1 + 3 + 1 + 3) = .ok (.putfield idx, 3))
    (kk : ∀ (ad1 : Nat → Nat → Nat) (a1 : Nat) (H1 : Heap) (locs1 : List Loc), va_P D am_cl (pws (l, D, va_up ad (k + 2) (ad1 2), L, ac, z) mz 0 (fl ++ [k]) [] (X ++ am_ws (l, D, ad1, oL 2, ac, a1) mineM)) H1 → va_D A (pws (l, D, va_up ad (k + 2) (ad1 2), L, ac, z) mz 0 (fl ++ [k]) [] (X ++ am_ws (l, D, ad1, oL 2, ac, a1) mineM)) → va_S A s.heap H1 locs1 → W p l e R s m args below meth c H1 locs1 (cells + 1 + 12) (slots + 17 + 104) Q (F0 m (pc + 1 + 3 + 1 + 3 + 3) ls [])) : W p l e R s m args below meth c H locs cells slots Q (F0 m pc ls []) := by
  have hts := cx.2.2.2.2.2.2
  refine lv_aload_n (x := ad 0 0) cx.1 cx.2.1 d0 rfl h0 ?_
  refine raw_mine (D := D) (ac := ac) cx rfl hKN hS hA hsz (by show 1 ≤ 7; omega) hfr hlo hc hs d1 d2 d3 ?_
  intro ad1 H1 locs1 ha1 hP1 hD1 hz1 hk1 hS1
  have hPo : va_P D am_cl (pws (l, D, ad, L, ac, z) mz 0 fl [] X) H1 := P_of (fun y hy => (P_mem hP hy).kept (hk1 _ (P_mem hP hy).lt))
  have hPa := hPo.app hP1
  have hDa : va_D A (pws (l, D, ad, L, ac, z) mz 0 fl [] X ++ am_ws (l, D, ad1, oL 2, ac, H.size) mineM) := D_app hD (D_mono hD1 (fun x hx => hA x (Nat.le_trans hS.1 hx))) (fun y hy w hw => by
    have h1 := (P_mem hP hy).lt
    have h2 : H.size ≤ w.1 := D_A hD1 hw
    omega)
  have k18 : k < 18 := by omega
  have hkd : am_kd 0 k = (5, k + 2) := by rcases hk with rfl | rfl <;> rfl
  have hT : (TX0 k).1 = RX0 ∧ (TX0 k).2.2.2 = true ∧ parseFieldDescriptor (TX0 k).2.2.1 = some (.object "SongLamps$Mine") := by
    rw [tyX0_ok k k18]
    rcases hk with rfl | rfl <;> exact ⟨rfl, rfl, rfl⟩
  refine va_putF (D := D) (ci := 0) (a := ad 0 0) (v := .ref H.size) (ty := .object "SongLamps$Mine") (own := RX0) (ref := RX0) (C := RX0) (T := TX0) (N := 18) (fs := pf ad mz 0 fl) cx.1 cx.2.1 hts in_X0 tyX0 tyX0_ok nmX0 cx.2.2.2.2.2.1 hKN.1 hPa hDa hS1 0 rfl rfl k k18 (hts _ hlk) (fun y hy => by rw [hT.1] at hy; exact hy) hT.2.1 hin hT.1 hT.2.2 rfl rfl (by unfold pf; rw [List.length_map, List.length_range]; exact k18) d4 ?_
  intro H2 locs2 hP2 hD2 hS2
  have hset : (pws (l, D, ad, L, ac, z) mz 0 fl [] X ++ am_ws (l, D, ad1, oL 2, ac, H.size) mineM).set 0 (ad 0 0, .inr (0, (pf ad mz 0 fl).set k (.ref H.size))) = pws (l, D, va_up ad (k + 2) (ad1 2), L, ac, z) mz 0 (fl ++ [k]) [] (X ++ am_ws (l, D, ad1, oL 2, ac, H.size) mineM) := by
    have e1 : (pf ad mz 0 fl).set k (.ref H.size) = pf (va_up ad (k + 2) (ad1 2)) mz 0 (fl ++ [k]) := by
      refine pf_set (by show ¬ (am_kd 0 k).1 = 0; rw [hkd]; show ¬ (5 : Nat) = 0; omega) ?_ (fun y hy => ⟨Nat.ne_of_lt (hfl y hy), ?_⟩)
      · unfold am_fv
        show (if (am_kd 0 k).1 = 0 then _ else if (am_kd 0 k).1 = 5 then Value.ref (va_up ad (k + 2) (ad1 2) (am_kd 0 k).2 0) else _) = _
        rw [hkd, if_neg (show ¬ (5 : Nat) = 0 by omega), if_pos rfl]
        simp [va_up, ha1]
      · have := hfl y hy
        rcases hk with rfl | rfl
        · omega
        · rcases (show y = 0 by omega) with rfl
          rfl
    have e2 : va_up ad (k + 2) (ad1 2) 0 0 = ad 0 0 := by
      have : ¬ 0 = k + 2 := by omega
      simp [va_up, this]
    show (ad 0 0, Sum.inr (0, (pf ad mz 0 fl).set k (.ref H.size))) :: ((X ++ []) ++ am_ws (l, D, ad1, oL 2, ac, H.size) mineM) = _
    rw [e1]
    unfold pws
    dsimp only
    rw [e2, List.append_nil, List.map_nil, List.append_nil]
    rfl
  rw [hset] at hP2 hD2
  exact kk ad1 H.size H2 locs2 hP2 hD2 hS2
theorem pws_imgs {l : Launch} {D : va_G} {ad : Nat → Nat → Nat} {ac : Nat → ClassId} {z : Nat} : am_ae (l, D, ad, sL, ac, z) mz 0 2 = .inl (ac 3, 2, .inr (.inr (.inr (.inr (fun _ => none))))) := by
  show Sum.inl (ac 3, 2, Sum.inr (Sum.inr (Sum.inr (Sum.inr (fun n => if sL (n + 4) = true then some (ad (n + 4) 0) else none))))) = _
  congr 7
  funext n
  match n with
  | 0 => rfl
  | 1 => rfl
  | n + 2 => rfl
theorem sy_blind {a : List Value} {D : va_G} {ac : Nat → ClassId} {l : Launch} {z : Nat × va_E} : FrameBlind (va_Pc a (fun U => va_at D am_cl z U.heap ∧ KN l D ac U ∧ va_AO "SongLamps$Mine" U)) := fun a' U g mk h => by
  obtain ⟨h1, h2, h3, h4⟩ := h
  exact ⟨h1, h2, am_Kn_same (s := U) (U := U.calling g mk a') rfl h3, h4⟩

/-- the system's cells as they were made are the system's world -/
theorem sys_fin {l : Launch} {D : va_G} {ad ad1 ad2 : Nat → Nat → Nat} {ac : Nat → ClassId} {a a1 a2 : Nat} {H : Heap} (h2 : ad 2 = ad1 2) (h3 : ad 3 = ad2 2) (hP : va_P D am_cl (pws (l, D, ad, sL, ac, a) mz 0 ([] ++ [0] ++ [1] ++ [2] ++ [3] ++ [5] ++ [6] ++ [7] ++ [13] ++ [14] ++ [15] ++ [16] ++ [17]) ([] ++ [2] ++ [3] ++ [5] ++ [6] ++ [7] ++ [13] ++ [14] ++ [15] ++ [16] ++ [17]) ([] ++ am_ws (l, D, ad1, oL 2, ac, a1) mineM ++ am_ws (l, D, ad2, oL 2, ac, a2) mineM)) H) (hD : va_D (fun x => a ≤ x) (pws (l, D, ad, sL, ac, a) mz 0 ([] ++ [0] ++ [1] ++ [2] ++ [3] ++ [5] ++ [6] ++ [7] ++ [13] ++ [14] ++ [15] ++ [16] ++ [17]) ([] ++ [2] ++ [3] ++ [5] ++ [6] ++ [7] ++ [13] ++ [14] ++ [15] ++ [16] ++ [17]) ([] ++ am_ws (l, D, ad1, oL 2, ac, a1) mineM ++ am_ws (l, D, ad2, oL 2, ac, a2) mineM))) : va_P D am_cl (am_ws (l, D, ad, sL, ac, a) sysM) H ∧ va_D (fun x => a ≤ x) (am_ws (l, D, ad, sL, ac, a) sysM) := by
  have w1 : am_ws (l, D, ad1, oL 2, ac, a1) mineM = (am_ids (oL 2)).map (fun c => (ad c.1 c.2, am_ce (l, D, ad, sL, ac, a) sysM c)) := by
    refine List.map_congr_left fun c hc => ?_
    obtain ⟨j, k⟩ := c
    have hj : j = 2 := ids_oL2 hc
    subst hj
    show (ad1 2 k, am_ce (l, D, ad1, oL 2, ac, a1) mineM (2, k)) = (ad 2 k, am_ce (l, D, ad, sL, ac, a) sysM (2, k))
    rw [h2, ce_cg (G := (l, D, ad, sL, ac, a)) (G' := (l, D, ad1, oL 2, ac, a1)) (M := sysM) (M' := mineM) (j := 2) (j' := 2) (ids_k24 hc) rfl rfl (fun k => by show ad1 2 k = ad 2 k; rw [h2]) rfl (fun q => by cases q) (fun q => by cases q)]
  have w2 : am_ws (l, D, ad2, oL 2, ac, a2) mineM = ((am_ids (oL 2)).map (fun c => (3, c.2))).map (fun c => (ad c.1 c.2, am_ce (l, D, ad, sL, ac, a) sysM c)) := by
    rw [List.map_map]
    refine List.map_congr_left fun c hc => ?_
    obtain ⟨j, k⟩ := c
    have hj : j = 2 := ids_oL2 hc
    subst hj
    show (ad2 2 k, am_ce (l, D, ad2, oL 2, ac, a2) mineM (2, k)) = (ad 3 k, am_ce (l, D, ad, sL, ac, a) sysM (3, k))
    rw [h3, ce_cg (G := (l, D, ad, sL, ac, a)) (G' := (l, D, ad2, oL 2, ac, a2)) (M := sysM) (M' := mineM) (j := 3) (j' := 2) (ids_k24 hc) rfl rfl (fun k => by show ad2 2 k = ad 3 k; rw [h3]) rfl (fun q => by cases q) (fun q => by cases q)]
  have w0 : pws (l, D, ad, sL, ac, a) mz 0 ([] ++ [0] ++ [1] ++ [2] ++ [3] ++ [5] ++ [6] ++ [7] ++ [13] ++ [14] ++ [15] ++ [16] ++ [17]) ([] ++ [2] ++ [3] ++ [5] ++ [6] ++ [7] ++ [13] ++ [14] ++ [15] ++ [16] ++ [17]) ([] ++ am_ws (l, D, ad1, oL 2, ac, a1) mineM ++ am_ws (l, D, ad2, oL 2, ac, a2) mineM) = ((0, 0) :: ((am_ids (oL 2) ++ (am_ids (oL 2)).map (fun c => (3, c.2))) ++ ([] ++ [2] ++ [3] ++ [5] ++ [6] ++ [7] ++ [13] ++ [14] ++ [15] ++ [16] ++ [17]).map (fun k => (0, k + 1)))).map (fun c => (ad c.1 c.2, am_ce (l, D, ad, sL, ac, a) sysM c)) := by
    rw [List.map_cons, List.map_append, List.map_append, ← w1, ← w2, List.map_map]
    unfold pws
    dsimp only
    rw [pf_full (by decide +kernel), List.nil_append]
    rfl
  rw [w0] at hP hD
  exact am_mk' (G := (l, D, ad, sL, ac, a)) (M := sysM) hP hD (fun x h => h) (show ∀ c ∈ am_ids sL, _ by decide +kernel)
set_option maxHeartbeats 8000000 in
theorem kX0_init (l : Launch) (D : va_G) (ac : Nat → ClassId) (a : Nat) : Met l yX0_init (ws_ yX0_init cX0_init 1 none) (rmI 4 36 1615) (va_Pc [.ref a] (fun U => va_at D am_cl (a, .inr (0, dfl 0)) U.heap ∧ KN l D ac U ∧ va_AO "SongLamps$Mine" U)) (va_Qv (S := Nat → Nat → Nat) (fun ad => ad 0 0 = a) (fun ad t => am_Wd (l, D, ad, sL, ac, a) sysM t) (fun x => a ≤ x)) 36 1615 (fun x => a ≤ x) := by
  refine Met.ofW (cc := cX0_init) (maxL := 1) (ret := none) (by decide) rfl ?_
  intro p e s m args below meth c s₁ B hml hv
  obtain ⟨rfl, hat, hKN, hAO⟩ := hv
  have hts := atoms_spec (ws := ws_ yX0_init cX0_init 1 none) B.pre
  have hts : ∀ w ∈ lw_all, w.before _ s = true := fun w h => hts w (List.mem_cons_of_mem _ h)
  have hown : s.vm.findClass RX0 = some m.cls := findClass_of_methodNamed B.named
  have hin : meth.name = "<init>" := (name_of_methodNamed B.named B.method).1
  have cx : iC mX0_init p s m _ meth c := ⟨B.exec, B.bytes, B.returns, B.notSynchronized, hml, hown, hts⟩
  have hx := B.exec
  have hb := B.bytes
  have hr := B.returns
  have hlocks := B.notSynchronized
  have hl := lv_entry ([.ref a]) (n := 1) (Nat.le_of_ble_eq_true rfl)
  rw [lg_entry_eq]
  generalize (lg_sl ([.ref a]) ++ List.replicate (1 - (lg_sl ([.ref a])).length) Slot.unset).toArray = ls at hl ⊢
  have hl : lv_has ls 1 [(0, .ref a)] := hl
  refine lv_aload_n hx hb dX0_init_0 rfl (lv_at hl 0 rfl) ?_
  refine W.objInit hx hb hown (hts _ q62) (hts _ q63) (hts _ q64) rfl (by rw [hml]; exact hl.1) rfl dX0_init_1 (Nat.le_of_ble_eq_true rfl) (Nat.le_of_ble_eq_true rfl) ?_
  refine W.eq (g2 := F0 m 4 ls []) rfl ?_
  have hA : ∀ x, s.heap.size ≤ x → a ≤ x := fun x hx => Nat.le_trans (Nat.le_of_lt hat.lt) hx
  have hP : va_P D am_cl (pws (l, D, fun _ _ => a, sL, ac, a) mz 0 [] [] []) s.heap := P_of (fun q hq => by
    rw [show q = (a, .inr (am_cls 0, pf (fun _ _ => a) mz 0 [])) by simpa [pws] using hq, pf_nil]
    exact hat)
  have hD : va_D (fun x => a ≤ x) (pws (l, D, fun _ _ => a, sL, ac, a) mz 0 [] [] []) := by
    refine ⟨fun i i2 u v hu hv _ => ?_, fun k q hq => ?_⟩
    · have := (List.getElem?_eq_some_iff.mp hu).1
      have := (List.getElem?_eq_some_iff.mp hv).1
      simp only [pws, List.length_cons, List.length_append, List.length_map, List.length_nil] at *
      omega
    · have := List.mem_of_getElem? hq
      rw [show q = (a, .inr (am_cls 0, pf (fun _ _ => a) mz 0 [])) by simpa [pws] using this]
      exact Nat.le_refl _
  have hS : va_S (fun x => a ≤ x) s.heap s.heap [] := va_S.rf
  have h0 : ls[0]? = some (.val (.ref a)) := lv_at hl 0 rfl
  have ha : (fun _ _ => a : Nat → Nat → Nat) 0 0 = a := rfl
  generalize (fun _ _ => a : Nat → Nat → Nat) = ad at hP hD h0 ha
  replace h0 : ls[0]? = some (.val (.ref (ad 0 0))) := by rw [ha]; exact lv_at hl 0 rfl
  refine ini_mine cx hin hKN hP hD hS hA hl.1 h0 0 (by omega) (by decide) q144 (Nat.le_of_ble_eq_true rfl) (Nat.le_of_ble_eq_true rfl) (Nat.le_of_ble_eq_true rfl) (Nat.le_of_ble_eq_true rfl) dX0_init_4 dX0_init_5 dX0_init_8 dX0_init_9 dX0_init_12 ?_
  clear hP hD hS
  intro ad1 a1 H1 locs1 hP hD hS
  have h0 : ls[0]? = some (.val (.ref (va_up ad (0 + 2) (ad1 2) 0 0))) := h0
  have ha : va_up ad (0 + 2) (ad1 2) 0 0 = a := ha
  have g2 : va_up ad (0 + 2) (ad1 2) 2 = ad1 2 := rfl
  generalize va_up ad (0 + 2) (ad1 2) = ad at hP hD h0 ha g2
  refine ini_mine cx hin hKN hP hD hS hA hl.1 h0 1 (by omega) (by decide) q145 (Nat.le_of_ble_eq_true rfl) (Nat.le_of_ble_eq_true rfl) (Nat.le_of_ble_eq_true rfl) (Nat.le_of_ble_eq_true rfl) dX0_init_15 dX0_init_16 dX0_init_19 dX0_init_20 dX0_init_23 ?_
  clear hP hD hS
  intro ad2 a2 H1 locs1 hP hD hS
  have h0 : ls[0]? = some (.val (.ref (va_up ad (1 + 2) (ad2 2) 0 0))) := h0
  have ha : va_up ad (1 + 2) (ad2 2) 0 0 = a := ha
  have g3 : va_up ad (1 + 2) (ad2 2) 3 = ad2 2 := rfl
  have g2 : va_up ad (1 + 2) (ad2 2) 2 = ad1 2 := g2
  generalize va_up ad (1 + 2) (ad2 2) = ad at hP hD h0 ha g2 g3
  refine lv_aload_n (x := ad 0 0) hx hb dX0_init_26 rfl h0 ?_
  refine lv_iconst hx hb dX0_init_27 ic_2 ?_
  refine va_newq (D := D) (cl := am_cl) (tys := am_tys (l, D, ad, sL, ac, a)) (A := fun x => a ≤ x) (H0 := s.heap) (N' := 2) hx hb hown (hts _ q65) hAO hKN.1 hP hD hS hA (by decide) (by decide) (by decide) (Nat.le_of_ble_eq_true rfl) (Nat.le_of_ble_eq_true rfl) dX0_init_28 ?_
  clear hP hD hS
  intro x cA H1 hK1 hP hD hS
  have hcA : cA = ac 3 := by
    obtain ⟨_, _, _, _, _, e1⟩ := (hK1.2 4 (cA, .object "SongLamps$Mine") rfl).2
    obtain ⟨_, _, _, _, _, e2⟩ := (hKN.1.2 3 (ac 3, .object "SongLamps$Mine") rfl).2
    exact Option.some.inj (e1.symm.trans e2)
  subst hcA
  refine va_putF (D := D) (ci := 0) (a := ad 0 0) (v := .ref x) (ty := .array (.object "SongLamps$Mine")) (own := RX0) (ref := RX0) (C := RX0) (T := TX0) (N := 18) (fs := pf ad mz 0 ([] ++ [0] ++ [1])) hx hb hts in_X0 tyX0 tyX0_ok nmX0 hown hKN.1 hP hD hS 0 rfl rfl 2 (by decide) (hts _ q146) (fun y hy => hy) rfl hin rfl (tyX0_ok 2 (by decide)) rfl rfl (by unfold pf; rw [List.length_map, List.length_range]; decide) dX0_init_31 ?_
  clear hP hD hS
  intro H1 locs1 hP hD hS
  have hpn := pws_next (l := l) (D := D) (ad := ad) (L := sL) (ac := ac) (z := a) (j := 0) (fl := [] ++ [0] ++ [1]) (cs := []) (X := [] ++ am_ws (l, D, ad1, oL 2, ac, a1) mineM ++ am_ws (l, D, ad2, oL 2, ac, a2) mineM) (k := 2) (x := x) (by decide) (by decide) (by decide) (by decide) pws_imgs
  replace hP := (congrArg (fun w => va_P D am_cl w H1) hpn).mp hP
  replace hD := (congrArg (fun w => va_D (fun x => a ≤ x) w) hpn).mp hD
  have h0 : ls[0]? = some (.val (.ref (va_up ad 0 (va_up (ad 0) (2 + 1) x) 0 0))) := by rw [ad_z]; exact h0
  have ha : va_up ad 0 (va_up (ad 0) (2 + 1) x) 0 0 = a := by rw [ad_z]; exact ha
  have g2 : va_up ad 0 (va_up (ad 0) (2 + 1) x) 2 = ad1 2 := g2
  have g3 : va_up ad 0 (va_up (ad 0) (2 + 1) x) 3 = ad2 2 := g3
  clear hpn
  generalize va_up ad 0 (va_up (ad 0) (2 + 1) x) = ad at hP hD h0 ha g2 g3
  refine ini_arr (C := RX0) (T := TX0) (N := 18) (ty0 := tyX0) cx hin hKN hP hD hS hA rfl rfl in_X0 tyX0_ok nmX0 rfl h0 3 2 60 (by decide) rfl (Or.inr (Or.inl rfl)) (by decide) (by decide) rfl rfl (idx := 49) q147 (atype := .char) (ety := .char) rfl rfl (fun c1 c2 h1 h2 => Option.some.inj (h1.symm.trans h2)) rfl (by decide) q199 rfl (fun x => ⟨rfl, rfl⟩) (v := 60) (pn := 37) ⟨by decide, by decide⟩ (by decide) dX0_init_34 (fun st h => lv_bipush hx hb dX0_init_35 bp_60 h) dX0_init_37 dX0_init_39 (Nat.le_of_ble_eq_true rfl) (Nat.le_of_ble_eq_true rfl) ?_
  clear hP hD hS
  intro ad3 H1 locs1 e0 e1 hP hD hS
  have h0 : ls[0]? = some (.val (.ref (ad3 0 0))) := by rw [e0]; exact h0
  have ha : ad3 0 0 = a := by rw [e0]; exact ha
  have g2 : ad3 2 = ad1 2 := by rw [e1 2 (by decide)]; exact g2
  have g3 : ad3 3 = ad2 2 := by rw [e1 3 (by decide)]; exact g3
  clear e0 e1
  refine ini_arr (C := RX0) (T := TX0) (N := 18) (ty0 := tyX0) cx hin hKN hP hD hS hA rfl rfl in_X0 tyX0_ok nmX0 rfl h0 5 1 60 (by decide) rfl (Or.inl rfl) (by decide) (by decide) rfl rfl (idx := 53) q149 (atype := .int) (ety := .int) rfl rfl (fun c1 c2 h1 h2 => Option.some.inj (h1.symm.trans h2)) rfl (by decide) q142 rfl (fun x => ⟨rfl, rfl⟩) (v := 60) (pn := 45) ⟨by decide, by decide⟩ (by decide) dX0_init_42 (fun st h => lv_bipush hx hb dX0_init_43 bp_60 h) dX0_init_45 dX0_init_47 (Nat.le_of_ble_eq_true rfl) (Nat.le_of_ble_eq_true rfl) ?_
  clear hP hD hS
  intro ad3 H1 locs1 e0 e1 hP hD hS
  have h0 : ls[0]? = some (.val (.ref (ad3 0 0))) := by rw [e0]; exact h0
  have ha : ad3 0 0 = a := by rw [e0]; exact ha
  have g2 : ad3 2 = ad1 2 := by rw [e1 2 (by decide)]; exact g2
  have g3 : ad3 3 = ad2 2 := by rw [e1 3 (by decide)]; exact g3
  clear e0 e1
  refine ini_arr (C := RX0) (T := TX0) (N := 18) (ty0 := tyX0) cx hin hKN hP hD hS hA rfl rfl in_X0 tyX0_ok nmX0 rfl h0 6 1 60 (by decide) rfl (Or.inl rfl) (by decide) (by decide) rfl rfl (idx := 57) q150 (atype := .int) (ety := .int) rfl rfl (fun c1 c2 h1 h2 => Option.some.inj (h1.symm.trans h2)) rfl (by decide) q142 rfl (fun x => ⟨rfl, rfl⟩) (v := 60) (pn := 53) ⟨by decide, by decide⟩ (by decide) dX0_init_50 (fun st h => lv_bipush hx hb dX0_init_51 bp_60 h) dX0_init_53 dX0_init_55 (Nat.le_of_ble_eq_true rfl) (Nat.le_of_ble_eq_true rfl) ?_
  clear hP hD hS
  intro ad3 H1 locs1 e0 e1 hP hD hS
  have h0 : ls[0]? = some (.val (.ref (ad3 0 0))) := by rw [e0]; exact h0
  have ha : ad3 0 0 = a := by rw [e0]; exact ha
  have g2 : ad3 2 = ad1 2 := by rw [e1 2 (by decide)]; exact g2
  have g3 : ad3 3 = ad2 2 := by rw [e1 3 (by decide)]; exact g3
  clear e0 e1
  refine ini_arr (C := RX0) (T := TX0) (N := 18) (ty0 := tyX0) cx hin hKN hP hD hS hA rfl rfl in_X0 tyX0_ok nmX0 rfl h0 7 1 60 (by decide) rfl (Or.inl rfl) (by decide) (by decide) rfl rfl (idx := 60) q151 (atype := .int) (ety := .int) rfl rfl (fun c1 c2 h1 h2 => Option.some.inj (h1.symm.trans h2)) rfl (by decide) q142 rfl (fun x => ⟨rfl, rfl⟩) (v := 60) (pn := 61) ⟨by decide, by decide⟩ (by decide) dX0_init_58 (fun st h => lv_bipush hx hb dX0_init_59 bp_60 h) dX0_init_61 dX0_init_63 (Nat.le_of_ble_eq_true rfl) (Nat.le_of_ble_eq_true rfl) ?_
  clear hP hD hS
  intro ad3 H1 locs1 e0 e1 hP hD hS
  have h0 : ls[0]? = some (.val (.ref (ad3 0 0))) := by rw [e0]; exact h0
  have ha : ad3 0 0 = a := by rw [e0]; exact ha
  have g2 : ad3 2 = ad1 2 := by rw [e1 2 (by decide)]; exact g2
  have g3 : ad3 3 = ad2 2 := by rw [e1 3 (by decide)]; exact g3
  clear e0 e1
  refine ini_arr (C := RX0) (T := TX0) (N := 18) (ty0 := tyX0) cx hin hKN hP hD hS hA rfl rfl in_X0 tyX0_ok nmX0 rfl h0 13 1 1000 (by decide) rfl (Or.inl rfl) (by decide) (by decide) rfl rfl (idx := 63) q157 (atype := .int) (ety := .int) rfl rfl (fun c1 c2 h1 h2 => Option.some.inj (h1.symm.trans h2)) rfl (by decide) q142 rfl (fun x => ⟨rfl, rfl⟩) (v := 1000) (pn := 70) ⟨by decide, by decide⟩ (by decide) dX0_init_66 (fun st h => lv_sipush hx hb dX0_init_67 sp_1000 h) dX0_init_70 dX0_init_72 (Nat.le_of_ble_eq_true rfl) (Nat.le_of_ble_eq_true rfl) ?_
  clear hP hD hS
  intro ad3 H1 locs1 e0 e1 hP hD hS
  have h0 : ls[0]? = some (.val (.ref (ad3 0 0))) := by rw [e0]; exact h0
  have ha : ad3 0 0 = a := by rw [e0]; exact ha
  have g2 : ad3 2 = ad1 2 := by rw [e1 2 (by decide)]; exact g2
  have g3 : ad3 3 = ad2 2 := by rw [e1 3 (by decide)]; exact g3
  clear e0 e1
  refine ini_arr (C := RX0) (T := TX0) (N := 18) (ty0 := tyX0) cx hin hKN hP hD hS hA rfl rfl in_X0 tyX0_ok nmX0 rfl h0 14 1 3 (by decide) rfl (Or.inl rfl) (by decide) (by decide) rfl rfl (idx := 66) q158 (atype := .int) (ety := .int) rfl rfl (fun c1 c2 h1 h2 => Option.some.inj (h1.symm.trans h2)) rfl (by decide) q142 rfl (fun x => ⟨rfl, rfl⟩) (v := 3) (pn := 77) ⟨by decide, by decide⟩ (by decide) dX0_init_75 (fun st h => lv_iconst hx hb dX0_init_76 ic_3 h) dX0_init_77 dX0_init_79 (Nat.le_of_ble_eq_true rfl) (Nat.le_of_ble_eq_true rfl) ?_
  clear hP hD hS
  intro ad3 H1 locs1 e0 e1 hP hD hS
  have h0 : ls[0]? = some (.val (.ref (ad3 0 0))) := by rw [e0]; exact h0
  have ha : ad3 0 0 = a := by rw [e0]; exact ha
  have g2 : ad3 2 = ad1 2 := by rw [e1 2 (by decide)]; exact g2
  have g3 : ad3 3 = ad2 2 := by rw [e1 3 (by decide)]; exact g3
  clear e0 e1
  refine ini_arr (C := RX0) (T := TX0) (N := 18) (ty0 := tyX0) cx hin hKN hP hD hS hA rfl rfl in_X0 tyX0_ok nmX0 rfl h0 15 1 3 (by decide) rfl (Or.inl rfl) (by decide) (by decide) rfl rfl (idx := 69) q159 (atype := .int) (ety := .int) rfl rfl (fun c1 c2 h1 h2 => Option.some.inj (h1.symm.trans h2)) rfl (by decide) q142 rfl (fun x => ⟨rfl, rfl⟩) (v := 3) (pn := 84) ⟨by decide, by decide⟩ (by decide) dX0_init_82 (fun st h => lv_iconst hx hb dX0_init_83 ic_3 h) dX0_init_84 dX0_init_86 (Nat.le_of_ble_eq_true rfl) (Nat.le_of_ble_eq_true rfl) ?_
  clear hP hD hS
  intro ad3 H1 locs1 e0 e1 hP hD hS
  have h0 : ls[0]? = some (.val (.ref (ad3 0 0))) := by rw [e0]; exact h0
  have ha : ad3 0 0 = a := by rw [e0]; exact ha
  have g2 : ad3 2 = ad1 2 := by rw [e1 2 (by decide)]; exact g2
  have g3 : ad3 3 = ad2 2 := by rw [e1 3 (by decide)]; exact g3
  clear e0 e1
  refine ini_arr (C := RX0) (T := TX0) (N := 18) (ty0 := tyX0) cx hin hKN hP hD hS hA rfl rfl in_X0 tyX0_ok nmX0 rfl h0 16 1 100 (by decide) rfl (Or.inl rfl) (by decide) (by decide) rfl rfl (idx := 72) q160 (atype := .int) (ety := .int) rfl rfl (fun c1 c2 h1 h2 => Option.some.inj (h1.symm.trans h2)) rfl (by decide) q142 rfl (fun x => ⟨rfl, rfl⟩) (v := 100) (pn := 92) ⟨by decide, by decide⟩ (by decide) dX0_init_89 (fun st h => lv_bipush hx hb dX0_init_90 bp_100 h) dX0_init_92 dX0_init_94 (Nat.le_of_ble_eq_true rfl) (Nat.le_of_ble_eq_true rfl) ?_
  clear hP hD hS
  intro ad3 H1 locs1 e0 e1 hP hD hS
  have h0 : ls[0]? = some (.val (.ref (ad3 0 0))) := by rw [e0]; exact h0
  have ha : ad3 0 0 = a := by rw [e0]; exact ha
  have g2 : ad3 2 = ad1 2 := by rw [e1 2 (by decide)]; exact g2
  have g3 : ad3 3 = ad2 2 := by rw [e1 3 (by decide)]; exact g3
  clear e0 e1
  refine ini_arr (C := RX0) (T := TX0) (N := 18) (ty0 := tyX0) cx hin hKN hP hD hS hA rfl rfl in_X0 tyX0_ok nmX0 rfl h0 17 1 25 (by decide) rfl (Or.inl rfl) (by decide) (by decide) rfl rfl (idx := 75) q161 (atype := .int) (ety := .int) rfl rfl (fun c1 c2 h1 h2 => Option.some.inj (h1.symm.trans h2)) rfl (by decide) q142 rfl (fun x => ⟨rfl, rfl⟩) (v := 25) (pn := 100) ⟨by decide, by decide⟩ (by decide) dX0_init_97 (fun st h => lv_bipush hx hb dX0_init_98 bp_25 h) dX0_init_100 dX0_init_102 (Nat.le_of_ble_eq_true rfl) (Nat.le_of_ble_eq_true rfl) ?_
  clear hP hD hS
  intro ad3 H1 locs1 e0 e1 hP hD hS
  have h0 : ls[0]? = some (.val (.ref (ad3 0 0))) := by rw [e0]; exact h0
  have ha : ad3 0 0 = a := by rw [e0]; exact ha
  have g2 : ad3 2 = ad1 2 := by rw [e1 2 (by decide)]; exact g2
  have g3 : ad3 3 = ad2 2 := by rw [e1 3 (by decide)]; exact g3
  clear e0 e1
  obtain ⟨hP', hD'⟩ := sys_fin g2 g3 hP hD
  have hK := KN_to (ad := ad3) (L := sL) (z := a) hKN (fun _ => ⟨rfl, rfl⟩)
  refine W.cs (cells' := 36) (slots' := 1615) rfl rfl ?_
  exact W.vret hx hb hr (fun t' ht' hW => ⟨⟨ad3, rfl, ha, by rw [ht']; exact hP', hD', am_Kn_warm hW hK⟩, hS.F ht'⟩) hS.2.2 dX0_init_105
