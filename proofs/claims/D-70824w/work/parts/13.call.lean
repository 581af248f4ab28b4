/-! CALLS and method entries, over am_R and am_C -/
set_option maxRecDepth 100000
def am_ct : am_V → Nat
  | .inl (.inr _) => 2
  | _ => 1
theorem am_ct_cat (G : am_G) (v : am_V) : (am_cv G v).category = am_ct v := by
  match v with
  | .inl (.inl x) => rfl
  | .inl (.inr x) => rfl
  | .inr none => rfl
  | .inr (some c) => rfl
theorem am_ct_sum (G : am_G) (st : List am_V) : ((st.map (am_cv G)).map fun v => v.category).sum = (st.map am_ct).sum := by
  rw [List.map_map]
  congr 1
  exact List.map_congr_left fun v _ => am_ct_cat G v
/-- the link of a call through an object, of a static one, of a nest mate's static one -/
def am_kV (own : String) (idx c : Nat) (q2 : am_Q) (n : Nat) : Prop := ∃ (C : String) (T : u_T) (N : Nat), am_cl[c]? = some (C, T, N) ∧ GoodIn lw_all (wsV own idx C q2.1 (ws_ q2.1 q2.2.1 q2.2.2.1 q2.2.2.2)) ∧ (q2.1.cls = C ∧ q2.1.cls ≠ "java/lang/invoke/MethodHandle" ∧ q2.1.cls ≠ "java/lang/invoke/VarHandle" ∧ (parseMethodDescriptor q2.1.desc).map (fun d => d.parameters.length) = some n)
def am_kS (own : String) (idx : Nat) (q2 : am_Q) (n : Nat) : Prop := GoodIn lw_all (va_wsS own idx q2.1 (ws_ q2.1 q2.2.1 q2.2.2.1 q2.2.2.2)) ∧ (q2.1.cls ≠ "java/lang/invoke/MethodHandle" ∧ q2.1.cls ≠ "java/lang/invoke/VarHandle" ∧ (parseMethodDescriptor q2.1.desc).map (fun d => d.parameters.length) = some n)
def am_kM (idx : Nat) (q2 : am_Q) (n : Nat) : Prop := GoodIn lw_all (ws_ q2.1 q2.2.1 q2.2.2.1 q2.2.2.2) ∧ Cond.static q2.1 ∈ lw_all ∧ Cond.initialized q2.1.cls ∈ lw_all ∧ q2.1.cls = "SongLamps" ∧ (idx, q2.1.name, q2.1.desc) ∈ am_nm ∧ (q2.1.cls ≠ "java/lang/invoke/MethodHandle" ∧ q2.1.cls ≠ "java/lang/invoke/VarHandle" ∧ (parseMethodDescriptor q2.1.desc).map (fun d => d.parameters.length) = some n)
section AMC
variable {α β : Type} {G : am_G} {d d2 : Nat} {q q2 : am_Q} {g : α → Option am_V × am_M} {g2 : β → Option am_V × am_M} {pc : Nat} {ls : List (Option am_V)} {st rest : List am_V} {M : am_M} {o : Option α} {o2 : Option β} {as : List am_V} {K : β → Option α}
theorem am_call (hM : am_C G d2 q2 as M g2 o2)
    (hrun : ∀ (Qc : Array Value → State → Outcome → State → Prop), Met G.1 q2.1 (ws_ q2.1 q2.2.1 q2.2.2.1 q2.2.2.2) (am_rm d2) (va_Pc (as.map (am_cv G)) (fun U => am_Wd G M U)) Qc 0 0 (am_A G) → ∀ (p : Program) (e : Env) (s : State) (m : MethodId) (args : Array Value) (below : List Frame) (meth : Method) (c : Code) (H : Heap) (locs : List Loc) (lsA : Array Slot), am_cx G q p s m args meth c → va_P G.2.1 am_cl (am_ws G M) H → va_D (am_A G) (am_ws G M) → am_lr G q.2.2.1 ls lsA → am_vs G st →
      va_Run p G.1 e (am_rm d) s m args below meth c H locs 0 0 0 0 (F0 m pc lsA (st.map (am_cv G))) (rest.map (am_cv G)) (Qc (as.map (am_cv G)).toArray) (am_A G))
    (hva : am_vs G st → am_vs G as) (hv : am_vs G st → am_vs G rest) (hrv : ∀ b v, (g2 b).1 = some v → am_vok G v) (kk : ∀ b, o2 = some b → am_R G d q g (pc + 3) ls ((g2 b).1.toList ++ rest) (g2 b).2 (K b)) : am_R G d q g pc ls st M (Option.bind o2 K) := by
  intro a ha p e s m args below meth c H locs lsA cx hP hD hS hl hs
  cases ho : o2 with
  | none => rw [ho] at ha; cases ha
  | some b =>
    rw [ho] at ha
    have run := hrun _ (hM b ho (hva hs)) p e s m args below meth c H locs lsA cx hP hD hl hs
    intro T hT X
    obtain ⟨v, st₀, t, T', L, h0, X', hL, e1, e2, ⟨hvv, hWd, hF⟩, stp⟩ := run T hT X
    have hv2 : v = (g2 b).1.map (am_cv G) := by
      have := hvv
      injection this
    obtain ⟨hz, hk⟩ := hF
    rw [h0] at hz hk
    have hs' : am_vs G ((g2 b).1.toList ++ rest) := by
      intro w hw
      rcases List.mem_append.mp hw with h | h
      · exact hrv b w (by simpa using h)
      · exact hv hs w h
    obtain ⟨t2, a1, b1⟩ := kk b ho a ha p e s m args below meth c T'.heap (locs ++ L) lsA cx (by rw [e1]; exact hWd.1) hWd.2.1
      ⟨Nat.le_trans hS.1 (by rw [e1]; exact hz), fun q h1 h2 => by rw [e1, hk q (Nat.lt_of_lt_of_le h1 hS.1) h2]; exact hS.2.1 q h1 h2, fun q hq => by
        rcases List.mem_append.mp hq with h | h
        · exact hS.2.2 q h
        · exact hL q h⟩ hl hs' T' rfl X'
    refine ⟨t2, stp t2 ?_, b1⟩
    have e3 : ((g2 b).1.toList ++ rest).map (am_cv G) = v.toList ++ rest.map (am_cv G) := by
      rw [List.map_append, hv2]
      cases (g2 b).1 <;> rfl
    rw [e3] at a1
    exact a1
theorem am_runV {idx c j n : Nat} {as' : List am_V} (lk : am_kV q.1.cls idx c q2 n) (hj : am_cls j = c) (hdd : d2 + 1 ≤ d) (hL : q2.2.2.1 ≤ 11) (has : as = am_r j 0 :: as') (hn : as'.length = n) (hst : st = as'.reverse ++ am_r j 0 :: rest) (hc : (rest.map am_ct).sum ≤ 8) (hd : decode q.2.1 pc = .ok (.invokevirtual idx, 3)) :
    ∀ (Qc : Array Value → State → Outcome → State → Prop), Met G.1 q2.1 (ws_ q2.1 q2.2.1 q2.2.2.1 q2.2.2.2) (am_rm d2) (va_Pc (as.map (am_cv G)) (fun U => am_Wd G M U)) Qc 0 0 (am_A G) → ∀ (p : Program) (e : Env) (s : State) (m : MethodId) (args : Array Value) (below : List Frame) (meth : Method) (c : Code) (H : Heap) (locs : List Loc) (lsA : Array Slot), am_cx G q p s m args meth c → va_P G.2.1 am_cl (am_ws G M) H → va_D (am_A G) (am_ws G M) → am_lr G q.2.2.1 ls lsA → am_vs G st →
      va_Run p G.1 e (am_rm d) s m args below meth c H locs 0 0 0 0 (F0 m pc lsA (st.map (am_cv G))) (rest.map (am_cv G)) (Qc (as.map (am_cv G)).toArray) (am_A G) := by
  intro Qc hM p e s m args below meth cd H locs lsA cx hP hD hl hs
  obtain ⟨C, T, N, hcl, hG, hdsc⟩ := lk
  subst has
  subst hst
  subst hj
  have hmem : (j, 0) ∈ am_ids G.2.2.2.1 := hs (am_r j 0) (List.mem_append_right _ List.mem_cons_self)
  obtain ⟨q0, hq0⟩ := am_place hmem
  have he := am_ws_at (M := M) hq0
  have hw : (as'.reverse ++ am_r j 0 :: rest).map (am_cv G) = (as'.map (am_cv G)).reverse ++ Value.ref (G.2.2.1 j 0) :: rest.map (am_cv G) := by
    rw [List.map_append, List.map_reverse]
    rfl
  rw [hw]
  exact va_runV (As := as'.map (am_cv G)) (b := G.2.2.1 j 0) (nL := q.2.2.1) (n := n) ⟨cx.1, cx.2.1, cx.2.2.2.2.1, cx.2.2.2.2.2.1, cx.2.2.2.2.2.2.1⟩ hM (cwV n cx.2.2.2.2.2.2.1 hG rfl rfl rfl hdsc ⟨hdd, by show 8 + (q2.2.2.1 + 11) + 30 * d2 ≤ 30 * d; omega⟩)
    ⟨am_blind, va_recv cx.2.2.2.2.2.2.2.1 hP hcl he, fun U hU hW => ⟨rfl, by rw [hU]; exact hP, hD, am_Kn_warm hW cx.2.2.2.2.2.2.2⟩⟩ rfl (by rw [List.length_map]; exact hn) hl.1 rfl (lv_room (by rw [am_ct_sum]; exact hc)) hd ⟨Nat.le_refl _, Nat.le_refl _⟩
theorem am_runS {idx n : Nat} (lk : am_kS q.1.cls idx q2 n) (hdd : d2 + 1 ≤ d) (hL : q2.2.2.1 ≤ 11) (hn : as.length = n) (hst : st = as.reverse ++ rest) (hc : (rest.map am_ct).sum ≤ 8) (hd : decode q.2.1 pc = .ok (.invokestatic idx, 3)) :
    ∀ (Qc : Array Value → State → Outcome → State → Prop), Met G.1 q2.1 (ws_ q2.1 q2.2.1 q2.2.2.1 q2.2.2.2) (am_rm d2) (va_Pc (as.map (am_cv G)) (fun U => am_Wd G M U)) Qc 0 0 (am_A G) → ∀ (p : Program) (e : Env) (s : State) (m : MethodId) (args : Array Value) (below : List Frame) (meth : Method) (c : Code) (H : Heap) (locs : List Loc) (lsA : Array Slot), am_cx G q p s m args meth c → va_P G.2.1 am_cl (am_ws G M) H → va_D (am_A G) (am_ws G M) → am_lr G q.2.2.1 ls lsA → am_vs G st →
      va_Run p G.1 e (am_rm d) s m args below meth c H locs 0 0 0 0 (F0 m pc lsA (st.map (am_cv G))) (rest.map (am_cv G)) (Qc (as.map (am_cv G)).toArray) (am_A G) := by
  intro Qc hM p e s m args below meth cd H locs lsA cx hP hD hl hs
  obtain ⟨hG, hdsc⟩ := lk
  subst hst
  have hw : (as.reverse ++ rest).map (am_cv G) = (as.map (am_cv G)).reverse ++ rest.map (am_cv G) := by
    rw [List.map_append, List.map_reverse]
  rw [hw]
  exact va_runS (As := as.map (am_cv G)) (nL := q.2.2.1) (n := n) ⟨cx.1, cx.2.1, cx.2.2.2.2.1, cx.2.2.2.2.2.1, cx.2.2.2.2.2.2.1⟩ hM (va_cwS n cx.2.2.2.2.2.2.1 hG rfl rfl rfl hdsc ⟨hdd, by show 8 + (q2.2.2.1 + 11) + 30 * d2 ≤ 30 * d; omega⟩)
    ⟨am_blind, fun U hU hW => ⟨rfl, by rw [hU]; exact hP, hD, am_Kn_warm hW cx.2.2.2.2.2.2.2⟩⟩ rfl (by rw [List.length_map]; exact hn) hl.1 rfl (lv_room (by rw [am_ct_sum]; exact hc)) hd ⟨Nat.le_refl _, Nat.le_refl _⟩
theorem am_runM {idx n : Nat} (ho : q.1.cls = "SongLamps$Mine") (lk : am_kM idx q2 n) (hdd : d2 + 1 ≤ d) (hL : q2.2.2.1 ≤ 11) (hn : as.length = n) (hst : st = as.reverse ++ rest) (hc : (rest.map am_ct).sum ≤ 8) (hd : decode q.2.1 pc = .ok (.invokestatic idx, 3)) :
    ∀ (Qc : Array Value → State → Outcome → State → Prop), Met G.1 q2.1 (ws_ q2.1 q2.2.1 q2.2.2.1 q2.2.2.2) (am_rm d2) (va_Pc (as.map (am_cv G)) (fun U => am_Wd G M U)) Qc 0 0 (am_A G) → ∀ (p : Program) (e : Env) (s : State) (m : MethodId) (args : Array Value) (below : List Frame) (meth : Method) (c : Code) (H : Heap) (locs : List Loc) (lsA : Array Slot), am_cx G q p s m args meth c → va_P G.2.1 am_cl (am_ws G M) H → va_D (am_A G) (am_ws G M) → am_lr G q.2.2.1 ls lsA → am_vs G st →
      va_Run p G.1 e (am_rm d) s m args below meth c H locs 0 0 0 0 (F0 m pc lsA (st.map (am_cv G))) (rest.map (am_cv G)) (Qc (as.map (am_cv G)).toArray) (am_A G) := by
  intro Qc hM p e s m args below meth cd H locs lsA cx hP hD hl hs
  obtain ⟨hG, hst1, hin1, hcl, hnm, hdsc⟩ := lk
  subst hst
  have hw : (as.reverse ++ rest).map (am_cv G) = (as.map (am_cv G)).reverse ++ rest.map (am_cv G) := by
    rw [List.map_append, List.map_reverse]
  rw [hw]
  have hts := cx.2.2.2.2.2.2.1
  have hnw := cx.2.2.2.2.2.2.2.2.2.1 _ hnm
  have hy : (⟨"SongLamps", q2.1.name, q2.1.desc⟩ : MethodName) = q2.1 := by rw [← hcl]
  dsimp only at hnw
  rw [hy] at hnw
  exact va_runSN (As := as.map (am_cv G)) (own := "SongLamps$Mine") (host := "SongLamps") (nL := q.2.2.1) (n := n) ⟨cx.1, cx.2.1, cx.2.2.2.2.1, by rw [← ho]; exact cx.2.2.2.2.2.1, hts⟩ hM ⟨va_cnB n hts hG rfl rfl rfl hnw (hts _ hin1) hdsc ⟨hdd, by show 8 + (q2.2.2.1 + 11) + 30 * d2 ≤ 30 * d; omega⟩, hts _ hst1, trivial⟩
    ⟨am_blind, fun U hU hW => ⟨rfl, by rw [hU]; exact hP, hD, am_Kn_warm hW cx.2.2.2.2.2.2.2⟩⟩ rfl (by rw [List.length_map]; exact hn) hl.1 rfl (lv_room (by rw [am_ct_sum]; exact hc)) hd ⟨Nat.le_refl _, Nat.le_refl _⟩
theorem am_vsV {j : Nat} {as' : List am_V} (has : as = am_r j 0 :: as') (hst : st = as'.reverse ++ am_r j 0 :: rest) (hs : am_vs G st) : am_vs G as ∧ am_vs G rest := by
  subst has
  subst hst
  refine ⟨fun v hv => hs v ?_, fun v hv => hs v (List.mem_append_right _ (List.mem_cons_of_mem _ hv))⟩
  rcases List.mem_cons.mp hv with h | h
  · rw [h]; exact List.mem_append_right _ List.mem_cons_self
  · exact List.mem_append_left _ (List.mem_reverse.mpr h)
theorem am_vsS (hst : st = as.reverse ++ rest) (hs : am_vs G st) : am_vs G as ∧ am_vs G rest := by
  subst hst
  exact ⟨fun v hv => hs v (List.mem_append_left _ (List.mem_reverse.mpr hv)), fun v hv => hs v (List.mem_append_right _ hv)⟩
theorem am_cVI {o2 : Option Int32} {K : Int32 → Option α} {idx c j n : Nat} {as' : List am_V} (lk : am_kV q.1.cls idx c q2 n) (hj : am_cls j = c) (hM : am_C G d2 q2 as M (fun r => (some (am_i r), M)) o2) (hdd : Nat.ble (d2 + 1) d = true) (hL : Nat.ble q2.2.2.1 11 = true) (has : as = am_r j 0 :: as') (hn : as'.length = n) (hst : st = as'.reverse ++ am_r j 0 :: rest) (hc : Nat.ble (rest.map am_ct).sum 8 = true) (hd : decode q.2.1 pc = .ok (.invokevirtual idx, 3)) (kk : ∀ r, am_R G d q g (pc + 3) ls (am_i r :: rest) M (K r)) : am_R G d q g pc ls st M (Option.bind o2 K) :=
  am_call hM (am_runV lk hj (Nat.le_of_ble_eq_true hdd) (Nat.le_of_ble_eq_true hL) has hn hst (Nat.le_of_ble_eq_true hc) hd) (fun hs => (am_vsV has hst hs).1) (fun hs => (am_vsV has hst hs).2) (fun _ _ h => by cases h; exact trivial) (fun b _ => kk b)
theorem am_cSI {o2 : Option Int32} {K : Int32 → Option α} {idx n : Nat} (lk : am_kS q.1.cls idx q2 n) (hM : am_C G d2 q2 as M (fun r => (some (am_i r), M)) o2) (hdd : Nat.ble (d2 + 1) d = true) (hL : Nat.ble q2.2.2.1 11 = true) (hn : as.length = n) (hst : st = as.reverse ++ rest) (hc : Nat.ble (rest.map am_ct).sum 8 = true) (hd : decode q.2.1 pc = .ok (.invokestatic idx, 3)) (kk : ∀ r, am_R G d q g (pc + 3) ls (am_i r :: rest) M (K r)) : am_R G d q g pc ls st M (Option.bind o2 K) :=
  am_call hM (am_runS lk (Nat.le_of_ble_eq_true hdd) (Nat.le_of_ble_eq_true hL) hn hst (Nat.le_of_ble_eq_true hc) hd) (fun hs => (am_vsS hst hs).1) (fun hs => (am_vsS hst hs).2) (fun _ _ h => by cases h; exact trivial) (fun b _ => kk b)
theorem am_cMI {o2 : Option Int32} {K : Int32 → Option α} {idx n : Nat} (ho : q.1.cls = "SongLamps$Mine") (lk : am_kM idx q2 n) (hM : am_C G d2 q2 as M (fun r => (some (am_i r), M)) o2) (hdd : Nat.ble (d2 + 1) d = true) (hL : Nat.ble q2.2.2.1 11 = true) (hn : as.length = n) (hst : st = as.reverse ++ rest) (hc : Nat.ble (rest.map am_ct).sum 8 = true) (hd : decode q.2.1 pc = .ok (.invokestatic idx, 3)) (kk : ∀ r, am_R G d q g (pc + 3) ls (am_i r :: rest) M (K r)) : am_R G d q g pc ls st M (Option.bind o2 K) :=
  am_call hM (am_runM ho lk (Nat.le_of_ble_eq_true hdd) (Nat.le_of_ble_eq_true hL) hn hst (Nat.le_of_ble_eq_true hc) hd) (fun hs => (am_vsS hst hs).1) (fun hs => (am_vsS hst hs).2) (fun _ _ h => by cases h; exact trivial) (fun b _ => kk b)
theorem am_cVL {o2 : Option Int64} {K : Int64 → Option α} {idx c j n : Nat} {as' : List am_V} (lk : am_kV q.1.cls idx c q2 n) (hj : am_cls j = c) (hM : am_C G d2 q2 as M (fun r => (some (am_l r), M)) o2) (hdd : Nat.ble (d2 + 1) d = true) (hL : Nat.ble q2.2.2.1 11 = true) (has : as = am_r j 0 :: as') (hn : as'.length = n) (hst : st = as'.reverse ++ am_r j 0 :: rest) (hc : Nat.ble (rest.map am_ct).sum 8 = true) (hd : decode q.2.1 pc = .ok (.invokevirtual idx, 3)) (kk : ∀ r, am_R G d q g (pc + 3) ls (am_l r :: rest) M (K r)) : am_R G d q g pc ls st M (Option.bind o2 K) :=
  am_call hM (am_runV lk hj (Nat.le_of_ble_eq_true hdd) (Nat.le_of_ble_eq_true hL) has hn hst (Nat.le_of_ble_eq_true hc) hd) (fun hs => (am_vsV has hst hs).1) (fun hs => (am_vsV has hst hs).2) (fun _ _ h => by cases h; exact trivial) (fun b _ => kk b)
theorem am_cSL {o2 : Option Int64} {K : Int64 → Option α} {idx n : Nat} (lk : am_kS q.1.cls idx q2 n) (hM : am_C G d2 q2 as M (fun r => (some (am_l r), M)) o2) (hdd : Nat.ble (d2 + 1) d = true) (hL : Nat.ble q2.2.2.1 11 = true) (hn : as.length = n) (hst : st = as.reverse ++ rest) (hc : Nat.ble (rest.map am_ct).sum 8 = true) (hd : decode q.2.1 pc = .ok (.invokestatic idx, 3)) (kk : ∀ r, am_R G d q g (pc + 3) ls (am_l r :: rest) M (K r)) : am_R G d q g pc ls st M (Option.bind o2 K) :=
  am_call hM (am_runS lk (Nat.le_of_ble_eq_true hdd) (Nat.le_of_ble_eq_true hL) hn hst (Nat.le_of_ble_eq_true hc) hd) (fun hs => (am_vsS hst hs).1) (fun hs => (am_vsS hst hs).2) (fun _ _ h => by cases h; exact trivial) (fun b _ => kk b)
theorem am_cML {o2 : Option Int64} {K : Int64 → Option α} {idx n : Nat} (ho : q.1.cls = "SongLamps$Mine") (lk : am_kM idx q2 n) (hM : am_C G d2 q2 as M (fun r => (some (am_l r), M)) o2) (hdd : Nat.ble (d2 + 1) d = true) (hL : Nat.ble q2.2.2.1 11 = true) (hn : as.length = n) (hst : st = as.reverse ++ rest) (hc : Nat.ble (rest.map am_ct).sum 8 = true) (hd : decode q.2.1 pc = .ok (.invokestatic idx, 3)) (kk : ∀ r, am_R G d q g (pc + 3) ls (am_l r :: rest) M (K r)) : am_R G d q g pc ls st M (Option.bind o2 K) :=
  am_call hM (am_runM ho lk (Nat.le_of_ble_eq_true hdd) (Nat.le_of_ble_eq_true hL) hn hst (Nat.le_of_ble_eq_true hc) hd) (fun hs => (am_vsS hst hs).1) (fun hs => (am_vsS hst hs).2) (fun _ _ h => by cases h; exact trivial) (fun b _ => kk b)
theorem am_cVX {o2 : Option (Int32 × am_M)} {K : Int32 × am_M → Option α} {idx c j n : Nat} {as' : List am_V} (lk : am_kV q.1.cls idx c q2 n) (hj : am_cls j = c) (hM : am_C G d2 q2 as M (fun r => (some (am_i r.1), r.2)) o2) (hdd : Nat.ble (d2 + 1) d = true) (hL : Nat.ble q2.2.2.1 11 = true) (has : as = am_r j 0 :: as') (hn : as'.length = n) (hst : st = as'.reverse ++ am_r j 0 :: rest) (hc : Nat.ble (rest.map am_ct).sum 8 = true) (hd : decode q.2.1 pc = .ok (.invokevirtual idx, 3)) (kk : ∀ r : Int32 × am_M, am_R G d q g (pc + 3) ls (am_i r.1 :: rest) r.2 (K r)) : am_R G d q g pc ls st M (Option.bind o2 K) :=
  am_call hM (am_runV lk hj (Nat.le_of_ble_eq_true hdd) (Nat.le_of_ble_eq_true hL) has hn hst (Nat.le_of_ble_eq_true hc) hd) (fun hs => (am_vsV has hst hs).1) (fun hs => (am_vsV has hst hs).2) (fun _ _ h => by cases h; exact trivial) (fun b _ => kk b)
theorem am_cSX {o2 : Option (Int32 × am_M)} {K : Int32 × am_M → Option α} {idx n : Nat} (lk : am_kS q.1.cls idx q2 n) (hM : am_C G d2 q2 as M (fun r => (some (am_i r.1), r.2)) o2) (hdd : Nat.ble (d2 + 1) d = true) (hL : Nat.ble q2.2.2.1 11 = true) (hn : as.length = n) (hst : st = as.reverse ++ rest) (hc : Nat.ble (rest.map am_ct).sum 8 = true) (hd : decode q.2.1 pc = .ok (.invokestatic idx, 3)) (kk : ∀ r : Int32 × am_M, am_R G d q g (pc + 3) ls (am_i r.1 :: rest) r.2 (K r)) : am_R G d q g pc ls st M (Option.bind o2 K) :=
  am_call hM (am_runS lk (Nat.le_of_ble_eq_true hdd) (Nat.le_of_ble_eq_true hL) hn hst (Nat.le_of_ble_eq_true hc) hd) (fun hs => (am_vsS hst hs).1) (fun hs => (am_vsS hst hs).2) (fun _ _ h => by cases h; exact trivial) (fun b _ => kk b)
theorem am_cMX {o2 : Option (Int32 × am_M)} {K : Int32 × am_M → Option α} {idx n : Nat} (ho : q.1.cls = "SongLamps$Mine") (lk : am_kM idx q2 n) (hM : am_C G d2 q2 as M (fun r => (some (am_i r.1), r.2)) o2) (hdd : Nat.ble (d2 + 1) d = true) (hL : Nat.ble q2.2.2.1 11 = true) (hn : as.length = n) (hst : st = as.reverse ++ rest) (hc : Nat.ble (rest.map am_ct).sum 8 = true) (hd : decode q.2.1 pc = .ok (.invokestatic idx, 3)) (kk : ∀ r : Int32 × am_M, am_R G d q g (pc + 3) ls (am_i r.1 :: rest) r.2 (K r)) : am_R G d q g pc ls st M (Option.bind o2 K) :=
  am_call hM (am_runM ho lk (Nat.le_of_ble_eq_true hdd) (Nat.le_of_ble_eq_true hL) hn hst (Nat.le_of_ble_eq_true hc) hd) (fun hs => (am_vsS hst hs).1) (fun hs => (am_vsS hst hs).2) (fun _ _ h => by cases h; exact trivial) (fun b _ => kk b)
theorem am_cVY {o2 : Option (Int64 × am_M)} {K : Int64 × am_M → Option α} {idx c j n : Nat} {as' : List am_V} (lk : am_kV q.1.cls idx c q2 n) (hj : am_cls j = c) (hM : am_C G d2 q2 as M (fun r => (some (am_l r.1), r.2)) o2) (hdd : Nat.ble (d2 + 1) d = true) (hL : Nat.ble q2.2.2.1 11 = true) (has : as = am_r j 0 :: as') (hn : as'.length = n) (hst : st = as'.reverse ++ am_r j 0 :: rest) (hc : Nat.ble (rest.map am_ct).sum 8 = true) (hd : decode q.2.1 pc = .ok (.invokevirtual idx, 3)) (kk : ∀ r : Int64 × am_M, am_R G d q g (pc + 3) ls (am_l r.1 :: rest) r.2 (K r)) : am_R G d q g pc ls st M (Option.bind o2 K) :=
  am_call hM (am_runV lk hj (Nat.le_of_ble_eq_true hdd) (Nat.le_of_ble_eq_true hL) has hn hst (Nat.le_of_ble_eq_true hc) hd) (fun hs => (am_vsV has hst hs).1) (fun hs => (am_vsV has hst hs).2) (fun _ _ h => by cases h; exact trivial) (fun b _ => kk b)
theorem am_cSY {o2 : Option (Int64 × am_M)} {K : Int64 × am_M → Option α} {idx n : Nat} (lk : am_kS q.1.cls idx q2 n) (hM : am_C G d2 q2 as M (fun r => (some (am_l r.1), r.2)) o2) (hdd : Nat.ble (d2 + 1) d = true) (hL : Nat.ble q2.2.2.1 11 = true) (hn : as.length = n) (hst : st = as.reverse ++ rest) (hc : Nat.ble (rest.map am_ct).sum 8 = true) (hd : decode q.2.1 pc = .ok (.invokestatic idx, 3)) (kk : ∀ r : Int64 × am_M, am_R G d q g (pc + 3) ls (am_l r.1 :: rest) r.2 (K r)) : am_R G d q g pc ls st M (Option.bind o2 K) :=
  am_call hM (am_runS lk (Nat.le_of_ble_eq_true hdd) (Nat.le_of_ble_eq_true hL) hn hst (Nat.le_of_ble_eq_true hc) hd) (fun hs => (am_vsS hst hs).1) (fun hs => (am_vsS hst hs).2) (fun _ _ h => by cases h; exact trivial) (fun b _ => kk b)
theorem am_cMY {o2 : Option (Int64 × am_M)} {K : Int64 × am_M → Option α} {idx n : Nat} (ho : q.1.cls = "SongLamps$Mine") (lk : am_kM idx q2 n) (hM : am_C G d2 q2 as M (fun r => (some (am_l r.1), r.2)) o2) (hdd : Nat.ble (d2 + 1) d = true) (hL : Nat.ble q2.2.2.1 11 = true) (hn : as.length = n) (hst : st = as.reverse ++ rest) (hc : Nat.ble (rest.map am_ct).sum 8 = true) (hd : decode q.2.1 pc = .ok (.invokestatic idx, 3)) (kk : ∀ r : Int64 × am_M, am_R G d q g (pc + 3) ls (am_l r.1 :: rest) r.2 (K r)) : am_R G d q g pc ls st M (Option.bind o2 K) :=
  am_call hM (am_runM ho lk (Nat.le_of_ble_eq_true hdd) (Nat.le_of_ble_eq_true hL) hn hst (Nat.le_of_ble_eq_true hc) hd) (fun hs => (am_vsS hst hs).1) (fun hs => (am_vsS hst hs).2) (fun _ _ h => by cases h; exact trivial) (fun b _ => kk b)
theorem am_cVU {o2 : Option am_M} {K : am_M → Option α} {idx c j n : Nat} {as' : List am_V} (lk : am_kV q.1.cls idx c q2 n) (hj : am_cls j = c) (hM : am_C G d2 q2 as M (fun r => (none, r)) o2) (hdd : Nat.ble (d2 + 1) d = true) (hL : Nat.ble q2.2.2.1 11 = true) (has : as = am_r j 0 :: as') (hn : as'.length = n) (hst : st = as'.reverse ++ am_r j 0 :: rest) (hc : Nat.ble (rest.map am_ct).sum 8 = true) (hd : decode q.2.1 pc = .ok (.invokevirtual idx, 3)) (kk : ∀ r, am_R G d q g (pc + 3) ls rest r (K r)) : am_R G d q g pc ls st M (Option.bind o2 K) :=
  am_call hM (am_runV lk hj (Nat.le_of_ble_eq_true hdd) (Nat.le_of_ble_eq_true hL) has hn hst (Nat.le_of_ble_eq_true hc) hd) (fun hs => (am_vsV has hst hs).1) (fun hs => (am_vsV has hst hs).2) (fun _ _ h => by cases h) (fun b _ => kk b)
theorem am_cSU {o2 : Option am_M} {K : am_M → Option α} {idx n : Nat} (lk : am_kS q.1.cls idx q2 n) (hM : am_C G d2 q2 as M (fun r => (none, r)) o2) (hdd : Nat.ble (d2 + 1) d = true) (hL : Nat.ble q2.2.2.1 11 = true) (hn : as.length = n) (hst : st = as.reverse ++ rest) (hc : Nat.ble (rest.map am_ct).sum 8 = true) (hd : decode q.2.1 pc = .ok (.invokestatic idx, 3)) (kk : ∀ r, am_R G d q g (pc + 3) ls rest r (K r)) : am_R G d q g pc ls st M (Option.bind o2 K) :=
  am_call hM (am_runS lk (Nat.le_of_ble_eq_true hdd) (Nat.le_of_ble_eq_true hL) hn hst (Nat.le_of_ble_eq_true hc) hd) (fun hs => (am_vsS hst hs).1) (fun hs => (am_vsS hst hs).2) (fun _ _ h => by cases h) (fun b _ => kk b)
theorem am_cMU {o2 : Option am_M} {K : am_M → Option α} {idx n : Nat} (ho : q.1.cls = "SongLamps$Mine") (lk : am_kM idx q2 n) (hM : am_C G d2 q2 as M (fun r => (none, r)) o2) (hdd : Nat.ble (d2 + 1) d = true) (hL : Nat.ble q2.2.2.1 11 = true) (hn : as.length = n) (hst : st = as.reverse ++ rest) (hc : Nat.ble (rest.map am_ct).sum 8 = true) (hd : decode q.2.1 pc = .ok (.invokestatic idx, 3)) (kk : ∀ r, am_R G d q g (pc + 3) ls rest r (K r)) : am_R G d q g pc ls st M (Option.bind o2 K) :=
  am_call hM (am_runM ho lk (Nat.le_of_ble_eq_true hdd) (Nat.le_of_ble_eq_true hL) hn hst (Nat.le_of_ble_eq_true hc) hd) (fun hs => (am_vsS hst hs).1) (fun hs => (am_vsS hst hs).2) (fun _ _ h => by cases h) (fun b _ => kk b)
theorem am_cVT {v : Int32} {idx c j n : Nat} {as' : List am_V} (lk : am_kV q.1.cls idx c q2 n) (hj : am_cls j = c) (hM : am_C G d2 q2 as M (fun r => (some (am_i r), M)) (some v)) (hdd : Nat.ble (d2 + 1) d = true) (hL : Nat.ble q2.2.2.1 11 = true) (has : as = am_r j 0 :: as') (hn : as'.length = n) (hst : st = as'.reverse ++ am_r j 0 :: rest) (hc : Nat.ble (rest.map am_ct).sum 8 = true) (hd : decode q.2.1 pc = .ok (.invokevirtual idx, 3)) (kk : am_R G d q g (pc + 3) ls (am_i v :: rest) M o) : am_R G d q g pc ls st M o :=
  am_call (K := fun _ => o) hM (am_runV lk hj (Nat.le_of_ble_eq_true hdd) (Nat.le_of_ble_eq_true hL) has hn hst (Nat.le_of_ble_eq_true hc) hd) (fun hs => (am_vsV has hst hs).1) (fun hs => (am_vsV has hst hs).2) (fun _ _ h => by cases h; exact trivial) (fun b hb => by cases hb; exact kk)
theorem am_cST {v : Int32} {idx n : Nat} (lk : am_kS q.1.cls idx q2 n) (hM : am_C G d2 q2 as M (fun r => (some (am_i r), M)) (some v)) (hdd : Nat.ble (d2 + 1) d = true) (hL : Nat.ble q2.2.2.1 11 = true) (hn : as.length = n) (hst : st = as.reverse ++ rest) (hc : Nat.ble (rest.map am_ct).sum 8 = true) (hd : decode q.2.1 pc = .ok (.invokestatic idx, 3)) (kk : am_R G d q g (pc + 3) ls (am_i v :: rest) M o) : am_R G d q g pc ls st M o :=
  am_call (K := fun _ => o) hM (am_runS lk (Nat.le_of_ble_eq_true hdd) (Nat.le_of_ble_eq_true hL) hn hst (Nat.le_of_ble_eq_true hc) hd) (fun hs => (am_vsS hst hs).1) (fun hs => (am_vsS hst hs).2) (fun _ _ h => by cases h; exact trivial) (fun b hb => by cases hb; exact kk)
theorem am_cMT {v : Int32} {idx n : Nat} (ho : q.1.cls = "SongLamps$Mine") (lk : am_kM idx q2 n) (hM : am_C G d2 q2 as M (fun r => (some (am_i r), M)) (some v)) (hdd : Nat.ble (d2 + 1) d = true) (hL : Nat.ble q2.2.2.1 11 = true) (hn : as.length = n) (hst : st = as.reverse ++ rest) (hc : Nat.ble (rest.map am_ct).sum 8 = true) (hd : decode q.2.1 pc = .ok (.invokestatic idx, 3)) (kk : am_R G d q g (pc + 3) ls (am_i v :: rest) M o) : am_R G d q g pc ls st M o :=
  am_call (K := fun _ => o) hM (am_runM ho lk (Nat.le_of_ble_eq_true hdd) (Nat.le_of_ble_eq_true hL) hn hst (Nat.le_of_ble_eq_true hc) hd) (fun hs => (am_vsS hst hs).1) (fun hs => (am_vsS hst hs).2) (fun _ _ h => by cases h; exact trivial) (fun b hb => by cases hb; exact kk)
theorem am_cVTL {v : Int64} {idx c j n : Nat} {as' : List am_V} (lk : am_kV q.1.cls idx c q2 n) (hj : am_cls j = c) (hM : am_C G d2 q2 as M (fun r => (some (am_l r), M)) (some v)) (hdd : Nat.ble (d2 + 1) d = true) (hL : Nat.ble q2.2.2.1 11 = true) (has : as = am_r j 0 :: as') (hn : as'.length = n) (hst : st = as'.reverse ++ am_r j 0 :: rest) (hc : Nat.ble (rest.map am_ct).sum 8 = true) (hd : decode q.2.1 pc = .ok (.invokevirtual idx, 3)) (kk : am_R G d q g (pc + 3) ls (am_l v :: rest) M o) : am_R G d q g pc ls st M o :=
  am_call (K := fun _ => o) hM (am_runV lk hj (Nat.le_of_ble_eq_true hdd) (Nat.le_of_ble_eq_true hL) has hn hst (Nat.le_of_ble_eq_true hc) hd) (fun hs => (am_vsV has hst hs).1) (fun hs => (am_vsV has hst hs).2) (fun _ _ h => by cases h; exact trivial) (fun b hb => by cases hb; exact kk)
theorem am_cSTL {v : Int64} {idx n : Nat} (lk : am_kS q.1.cls idx q2 n) (hM : am_C G d2 q2 as M (fun r => (some (am_l r), M)) (some v)) (hdd : Nat.ble (d2 + 1) d = true) (hL : Nat.ble q2.2.2.1 11 = true) (hn : as.length = n) (hst : st = as.reverse ++ rest) (hc : Nat.ble (rest.map am_ct).sum 8 = true) (hd : decode q.2.1 pc = .ok (.invokestatic idx, 3)) (kk : am_R G d q g (pc + 3) ls (am_l v :: rest) M o) : am_R G d q g pc ls st M o :=
  am_call (K := fun _ => o) hM (am_runS lk (Nat.le_of_ble_eq_true hdd) (Nat.le_of_ble_eq_true hL) hn hst (Nat.le_of_ble_eq_true hc) hd) (fun hs => (am_vsS hst hs).1) (fun hs => (am_vsS hst hs).2) (fun _ _ h => by cases h; exact trivial) (fun b hb => by cases hb; exact kk)
theorem am_cMTL {v : Int64} {idx n : Nat} (ho : q.1.cls = "SongLamps$Mine") (lk : am_kM idx q2 n) (hM : am_C G d2 q2 as M (fun r => (some (am_l r), M)) (some v)) (hdd : Nat.ble (d2 + 1) d = true) (hL : Nat.ble q2.2.2.1 11 = true) (hn : as.length = n) (hst : st = as.reverse ++ rest) (hc : Nat.ble (rest.map am_ct).sum 8 = true) (hd : decode q.2.1 pc = .ok (.invokestatic idx, 3)) (kk : am_R G d q g (pc + 3) ls (am_l v :: rest) M o) : am_R G d q g pc ls st M o :=
  am_call (K := fun _ => o) hM (am_runM ho lk (Nat.le_of_ble_eq_true hdd) (Nat.le_of_ble_eq_true hL) hn hst (Nat.le_of_ble_eq_true hc) hd) (fun hs => (am_vsS hst hs).1) (fun hs => (am_vsS hst hs).2) (fun _ _ h => by cases h; exact trivial) (fun b hb => by cases hb; exact kk)
theorem am_dr {ls' : List (Option am_V)} (k : am_R G d q g pc ls' st M o) (hs : am_sub ls' ls) : am_R G d q g pc ls st M o := am_drop hs k
theorem am_joinR {R S : Type} {b : Option (R ⊕ S)} {ret : R → Option α} {K' : S → Option α} (pc' : Nat) (ls' : S → List (Option am_V)) (st' : S → List am_V) (M' : S → am_M) (hm : ∀ x, am_R G d q g pc' (ls' x) (st' x) (M' x) (K' x)) (hb : (∀ x, am_R G d q g pc' (ls' x) (st' x) (M' x) (K' x)) → am_R G d q g pc ls st M (Option.bind b (Sum.elim ret K'))) : am_R G d q g pc ls st M (Option.bind b (Sum.elim ret K')) := hb hm
theorem am_asR {R S γ : Type} {b : Option (R ⊕ S)} {ret : R → Option γ} {K' : S → Option γ} {K : γ → Option α} (kk : am_R G d q g pc ls st M (Option.bind b (Sum.elim (fun r => Option.bind (ret r) K) (fun s => Option.bind (K' s) K)))) : am_R G d q g pc ls st M (Option.bind (Option.bind b (Sum.elim ret K')) K) := by
  have e : Option.bind (Option.bind b (Sum.elim ret K')) K = Option.bind b (Sum.elim (fun r => Option.bind (ret r) K) (fun s => Option.bind (K' s) K)) := by
    cases b with
    | none => rfl
    | some z => cases z <;> rfl
  rw [e]
  exact kk
theorem am_if_eqS {x : Int32} {off : Int} {tgt : Nat} {o1 o2 : α} (hd : decode q.2.1 pc = .ok (.ifCond .eq off, 3)) (ht : (pc : Int) + off = (tgt : Int)) (k1 : am_R G d q g tgt ls st M (some o1)) (k2 : am_R G d q g (pc + 3) ls st M (some o2)) : am_R G d q g pc ls (am_i x :: st) M (some (if x = 0 then o1 else o2)) := by
  rw [apply_ite some]
  exact am_if_eq hd ht k1 k2
theorem am_icmp_eqS {x y : Int32} {off : Int} {tgt : Nat} {o1 o2 : α} (hd : decode q.2.1 pc = .ok (.if_icmp .eq off, 3)) (ht : (pc : Int) + off = (tgt : Int)) (k1 : am_R G d q g tgt ls st M (some o1)) (k2 : am_R G d q g (pc + 3) ls st M (some o2)) : am_R G d q g pc ls (am_i y :: am_i x :: st) M (some (if x = y then o1 else o2)) := by
  rw [apply_ite some]
  exact am_icmp_eq hd ht k1 k2
theorem am_if_neS {x : Int32} {off : Int} {tgt : Nat} {o1 o2 : α} (hd : decode q.2.1 pc = .ok (.ifCond .ne off, 3)) (ht : (pc : Int) + off = (tgt : Int)) (k1 : am_R G d q g (pc + 3) ls st M (some o1)) (k2 : am_R G d q g tgt ls st M (some o2)) : am_R G d q g pc ls (am_i x :: st) M (some (if x = 0 then o1 else o2)) := by
  rw [apply_ite some]
  exact am_if_ne hd ht k1 k2
theorem am_icmp_neS {x y : Int32} {off : Int} {tgt : Nat} {o1 o2 : α} (hd : decode q.2.1 pc = .ok (.if_icmp .ne off, 3)) (ht : (pc : Int) + off = (tgt : Int)) (k1 : am_R G d q g (pc + 3) ls st M (some o1)) (k2 : am_R G d q g tgt ls st M (some o2)) : am_R G d q g pc ls (am_i y :: am_i x :: st) M (some (if x = y then o1 else o2)) := by
  rw [apply_ite some]
  exact am_icmp_ne hd ht k1 k2
theorem am_if_ltS {x : Int32} {off : Int} {tgt : Nat} {o1 o2 : α} (hd : decode q.2.1 pc = .ok (.ifCond .lt off, 3)) (ht : (pc : Int) + off = (tgt : Int)) (k1 : am_R G d q g tgt ls st M (some o1)) (k2 : am_R G d q g (pc + 3) ls st M (some o2)) : am_R G d q g pc ls (am_i x :: st) M (some (if x < 0 then o1 else o2)) := by
  rw [apply_ite some]
  exact am_if_lt hd ht k1 k2
theorem am_icmp_ltS {x y : Int32} {off : Int} {tgt : Nat} {o1 o2 : α} (hd : decode q.2.1 pc = .ok (.if_icmp .lt off, 3)) (ht : (pc : Int) + off = (tgt : Int)) (k1 : am_R G d q g tgt ls st M (some o1)) (k2 : am_R G d q g (pc + 3) ls st M (some o2)) : am_R G d q g pc ls (am_i y :: am_i x :: st) M (some (if x < y then o1 else o2)) := by
  rw [apply_ite some]
  exact am_icmp_lt hd ht k1 k2
theorem am_if_geS {x : Int32} {off : Int} {tgt : Nat} {o1 o2 : α} (hd : decode q.2.1 pc = .ok (.ifCond .ge off, 3)) (ht : (pc : Int) + off = (tgt : Int)) (k1 : am_R G d q g tgt ls st M (some o1)) (k2 : am_R G d q g (pc + 3) ls st M (some o2)) : am_R G d q g pc ls (am_i x :: st) M (some (if 0 ≤ x then o1 else o2)) := by
  rw [apply_ite some]
  exact am_if_ge hd ht k1 k2
theorem am_icmp_geS {x y : Int32} {off : Int} {tgt : Nat} {o1 o2 : α} (hd : decode q.2.1 pc = .ok (.if_icmp .ge off, 3)) (ht : (pc : Int) + off = (tgt : Int)) (k1 : am_R G d q g tgt ls st M (some o1)) (k2 : am_R G d q g (pc + 3) ls st M (some o2)) : am_R G d q g pc ls (am_i y :: am_i x :: st) M (some (if y ≤ x then o1 else o2)) := by
  rw [apply_ite some]
  exact am_icmp_ge hd ht k1 k2
theorem am_if_gtS {x : Int32} {off : Int} {tgt : Nat} {o1 o2 : α} (hd : decode q.2.1 pc = .ok (.ifCond .gt off, 3)) (ht : (pc : Int) + off = (tgt : Int)) (k1 : am_R G d q g tgt ls st M (some o1)) (k2 : am_R G d q g (pc + 3) ls st M (some o2)) : am_R G d q g pc ls (am_i x :: st) M (some (if 0 < x then o1 else o2)) := by
  rw [apply_ite some]
  exact am_if_gt hd ht k1 k2
theorem am_icmp_gtS {x y : Int32} {off : Int} {tgt : Nat} {o1 o2 : α} (hd : decode q.2.1 pc = .ok (.if_icmp .gt off, 3)) (ht : (pc : Int) + off = (tgt : Int)) (k1 : am_R G d q g tgt ls st M (some o1)) (k2 : am_R G d q g (pc + 3) ls st M (some o2)) : am_R G d q g pc ls (am_i y :: am_i x :: st) M (some (if y < x then o1 else o2)) := by
  rw [apply_ite some]
  exact am_icmp_gt hd ht k1 k2
theorem am_if_leS {x : Int32} {off : Int} {tgt : Nat} {o1 o2 : α} (hd : decode q.2.1 pc = .ok (.ifCond .le off, 3)) (ht : (pc : Int) + off = (tgt : Int)) (k1 : am_R G d q g tgt ls st M (some o1)) (k2 : am_R G d q g (pc + 3) ls st M (some o2)) : am_R G d q g pc ls (am_i x :: st) M (some (if x ≤ 0 then o1 else o2)) := by
  rw [apply_ite some]
  exact am_if_le hd ht k1 k2
theorem am_icmp_leS {x y : Int32} {off : Int} {tgt : Nat} {o1 o2 : α} (hd : decode q.2.1 pc = .ok (.if_icmp .le off, 3)) (ht : (pc : Int) + off = (tgt : Int)) (k1 : am_R G d q g tgt ls st M (some o1)) (k2 : am_R G d q g (pc + 3) ls st M (some o2)) : am_R G d q g pc ls (am_i y :: am_i x :: st) M (some (if x ≤ y then o1 else o2)) := by
  rw [apply_ite some]
  exact am_icmp_le hd ht k1 k2
def jv_max (x y : Int32) : Int32 := if x < y then y else x
def jv_min (x y : Int32) : Int32 := if y < x then y else x
def jv_abs (x : Int32) : Int32 := if 0 ≤ x then x else 0 - x
theorem mx_code : Cond.code Lib.Math.max.name Lib.Math.max.code 2 (some .int) ∈ lw_all := q352
theorem mn_code : Cond.code Lib.Math.min.name Lib.Math.min.code 2 (some .int) ∈ lw_all := q371
theorem ma_code : Cond.code Lib.Math.abs.name Lib.Math.abs.code 1 (some .int) ∈ lw_all := q347
theorem mx_stat : Cond.static Lib.Math.max.name ∈ lw_all := q351
theorem mn_stat : Cond.static Lib.Math.min.name ∈ lw_all := q370
theorem ma_stat : Cond.static Lib.Math.abs.name ∈ lw_all := q346
theorem am_mmax {x y : Int32} {idx : Nat} (hlk : Cond.methodLink q.1.cls idx Lib.Math.max.name ∈ lw_all) (hdd : Nat.ble 1 d = true) (hc : Nat.ble (st.map am_ct).sum 8 = true) (hd : decode q.2.1 pc = .ok (.invokestatic idx, 3)) (kk : am_R G d q g (pc + 3) ls (am_i (jv_max x y) :: st) M o) : am_R G d q g pc ls (am_i y :: am_i x :: st) M o :=
  am_lift (fun h => am_vs_i (am_vs_t (am_vs_t h))) (fun p e s m args below meth c H locs lsA Q cx hl hs hP hD k => va_mmax cx.1 cx.2.1 (by rw [cx.2.2.2.2.1]; exact hl.1.symm) cx.2.2.2.2.2.1 (cx.2.2.2.2.2.2.1 _ hlk) (cx.2.2.2.2.2.2.1 _ mx_stat) (cx.2.2.2.2.2.2.1 _ q56) (cx.2.2.2.2.2.2.1 _ mx_code) (Nat.le_of_ble_eq_true hdd) (by have h1 := Nat.le_of_ble_eq_true hc; have h2 := Nat.le_of_ble_eq_true hdd; rw [am_ct_sum]; show _ + 13 ≤ 30 * d; omega) (Nat.le_refl _) (Nat.le_refl _) hd k) kk
theorem am_mmin {x y : Int32} {idx : Nat} (hlk : Cond.methodLink q.1.cls idx Lib.Math.min.name ∈ lw_all) (hdd : Nat.ble 1 d = true) (hc : Nat.ble (st.map am_ct).sum 8 = true) (hd : decode q.2.1 pc = .ok (.invokestatic idx, 3)) (kk : am_R G d q g (pc + 3) ls (am_i (jv_min x y) :: st) M o) : am_R G d q g pc ls (am_i y :: am_i x :: st) M o :=
  am_lift (fun h => am_vs_i (am_vs_t (am_vs_t h))) (fun p e s m args below meth c H locs lsA Q cx hl hs hP hD k => va_mmin cx.1 cx.2.1 (by rw [cx.2.2.2.2.1]; exact hl.1.symm) cx.2.2.2.2.2.1 (cx.2.2.2.2.2.2.1 _ hlk) (cx.2.2.2.2.2.2.1 _ mn_stat) (cx.2.2.2.2.2.2.1 _ q56) (cx.2.2.2.2.2.2.1 _ mn_code) (Nat.le_of_ble_eq_true hdd) (by have h1 := Nat.le_of_ble_eq_true hc; have h2 := Nat.le_of_ble_eq_true hdd; rw [am_ct_sum]; show _ + 13 ≤ 30 * d; omega) (Nat.le_refl _) (Nat.le_refl _) hd k) kk
theorem am_mabs {x : Int32} {idx : Nat} (hlk : Cond.methodLink q.1.cls idx Lib.Math.abs.name ∈ lw_all) (hdd : Nat.ble 1 d = true) (hc : Nat.ble (st.map am_ct).sum 8 = true) (hd : decode q.2.1 pc = .ok (.invokestatic idx, 3)) (kk : am_R G d q g (pc + 3) ls (am_i (jv_abs x) :: st) M o) : am_R G d q g pc ls (am_i x :: st) M o :=
  am_lift (fun h => am_vs_i (am_vs_t h)) (fun p e s m args below meth c H locs lsA Q cx hl hs hP hD k => va_mabs cx.1 cx.2.1 (by rw [cx.2.2.2.2.1]; exact hl.1.symm) cx.2.2.2.2.2.1 (cx.2.2.2.2.2.2.1 _ hlk) (cx.2.2.2.2.2.2.1 _ ma_stat) (cx.2.2.2.2.2.2.1 _ q56) (cx.2.2.2.2.2.2.1 _ ma_code) (Nat.le_of_ble_eq_true hdd) (by have h1 := Nat.le_of_ble_eq_true hc; have h2 := Nat.le_of_ble_eq_true hdd; rw [am_ct_sum]; show _ + 13 ≤ 30 * d; omega) (Nat.le_refl _) (Nat.le_refl _) hd k) kk
/-! a method's start -/
def am_ent : List am_V → List (Option am_V)
  | [] => []
  | .inl (.inr x) :: t => some (am_l x) :: none :: am_ent t
  | v :: t => some v :: am_ent t
theorem am_ent_at (G : am_G) : ∀ (vs : List am_V) (i0 i : Nat) (v : am_V), (am_ent vs)[i]? = some (some v) → (i0 + i, am_cv G v) ∈ lv_args i0 (vs.map (am_cv G)) ∧ v ∈ vs
  | [], i0, i, v, h => by simp [am_ent] at h
  | .inl (.inr x) :: t, i0, i, v, h => by
    match i, h with
    | 0, h =>
      cases h
      exact ⟨List.mem_cons_self, List.mem_cons_self⟩
    | 1, h => cases h
    | i + 2, h =>
      obtain ⟨h1, h2⟩ := am_ent_at G t (i0 + 2) i v h
      refine ⟨List.mem_cons_of_mem _ ?_, List.mem_cons_of_mem _ h2⟩
      have e : i0 + (i + 2) = i0 + 2 + i := by omega
      rw [e]
      exact h1
  | .inl (.inl x) :: t, i0, i, v, h => by
    match i, h with
    | 0, h =>
      cases h
      exact ⟨List.mem_cons_self, List.mem_cons_self⟩
    | i + 1, h =>
      obtain ⟨h1, h2⟩ := am_ent_at G t (i0 + 1) i v h
      refine ⟨List.mem_cons_of_mem _ ?_, List.mem_cons_of_mem _ h2⟩
      have e : i0 + (i + 1) = i0 + 1 + i := by omega
      rw [e]
      exact h1
  | .inr none :: t, i0, i, v, h => by
    match i, h with
    | 0, h =>
      cases h
      exact ⟨List.mem_cons_self, List.mem_cons_self⟩
    | i + 1, h =>
      obtain ⟨h1, h2⟩ := am_ent_at G t (i0 + 1) i v h
      refine ⟨List.mem_cons_of_mem _ ?_, List.mem_cons_of_mem _ h2⟩
      have e : i0 + (i + 1) = i0 + 1 + i := by omega
      rw [e]
      exact h1
  | .inr (some c) :: t, i0, i, v, h => by
    match i, h with
    | 0, h =>
      cases h
      exact ⟨List.mem_cons_self, List.mem_cons_self⟩
    | i + 1, h =>
      obtain ⟨h1, h2⟩ := am_ent_at G t (i0 + 1) i v h
      refine ⟨List.mem_cons_of_mem _ ?_, List.mem_cons_of_mem _ h2⟩
      have e : i0 + (i + 1) = i0 + 1 + i := by omega
      rw [e]
      exact h1
theorem am_lg (G : am_G) (vs : List am_V) : (lg_sl (vs.map (am_cv G))).length = (vs.map am_ct).sum := by
  induction vs with
  | nil => rfl
  | cons v t ih =>
    have e : lg_sl ((v :: t).map (am_cv G)) = lg_sl [am_cv G v] ++ lg_sl (t.map (am_cv G)) := by simp [lg_sl]
    rw [e, List.length_append, ih]
    match v with
    | .inl (.inl x) => rfl
    | .inl (.inr x) => rfl
    | .inr none => rfl
    | .inr (some c) => rfl
/-- a method's contract out of the walk from its entry -/
theorem am_met {nL : Nat} {ls0 : List (Option am_V)} (hy : plainName q.1.cls = true) (hL : q.2.2.1 = nL) (has : (as.map am_ct).sum ≤ nL) (he : am_sub ls0 (am_ent as)) (h : am_R G d q g 0 ls0 [] M o) : am_C G d q as M g o := by
  intro a ha hok
  refine Met.ofW (cc := q.2.1) (maxL := q.2.2.1) (ret := q.2.2.2) hy rfl ?_
  intro p e s m args below meth c s₁ B hml hv
  obtain ⟨hargs, hP, hD, hK⟩ := hv
  subst hargs
  have hts := atoms_spec (ws := ws_ q.1 q.2.1 q.2.2.1 q.2.2.2) B.pre
  have hts : ∀ w ∈ lw_all, w.before _ s = true := fun w h => hts w (List.mem_cons_of_mem _ h)
  have hown : s.vm.findClass q.1.cls = some m.cls := findClass_of_methodNamed B.named
  have hlv := lv_entry (as.map (am_cv G)) (n := q.2.2.1) (by rw [am_lg, hL]; exact has)
  rw [lg_entry_eq]
  refine h a ha p e s m _ below meth c s.heap [] _ ⟨B.exec, B.bytes, B.returns, B.notSynchronized, hml, hown, hts, hK⟩ hP hD va_S.rf ⟨hlv.1, hlv.2.1, fun i v hi => ?_⟩ (fun _ z => by cases z)
  obtain ⟨h1, h2⟩ := am_ent_at G as 0 i v (am_sub_at he hi)
  rw [Nat.zero_add] at h1
  exact ⟨hlv.2.2 _ h1, hok v h2⟩
end AMC
