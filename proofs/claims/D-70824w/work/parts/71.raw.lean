/-! RAW ROWS: the machine itself, in any room: what the constructors, image and the law are walked with -/
set_option maxRecDepth 100000
def iC (q : am_Q) (p : Program) (s : State) (m : MethodId) (args : Array Value) (meth : Method) (c : Code) : Prop :=
  p.tables.exec = Jvm.exec ∧ c.code = q.2.1 ∧ meth.sig.returnType = q.2.2.2 ∧ meth.locks = false ∧ c.maxLocals = q.2.2.1 ∧ s.vm.findClass q.1.cls = some m.cls ∧ (∀ w ∈ lw_all, w.before args s = true)
section RAW
variable {p : Program} {l : Launch} {e : Env} {R : Room} {s : State} {m : MethodId} {args : Array Value} {below : List Frame} {meth : Method} {c : Code} {H : Heap} {locs : List Loc} {cells slots : Nat} {Q : State → Prop} {q : am_Q} {pc : Nat} {ls : Array Slot} {rest : List Value} {A : Nat → Prop}
/-- a new object -/
theorem raw_new {D : va_G} {ac : Nat → ClassId} (cx : iC q p s m args meth c) (hKN : KN l D ac s) {ci : Nat} {C : String} {T : u_T} {N : Nat} {ty : Nat → FieldType} (hcl : am_cl[ci]? = some (C, T, N)) (hiw : ∀ w ∈ u_ws C T N, w ∈ lw_all) (hty : ∀ k, k < N → parseFieldDescriptor (T k).2.2.1 = some (ty k)) {idx : Nat} (hlk : Cond.classLink q.1.cls idx C ∈ lw_all) (hins : Cond.instantiable C N ∈ lw_all) (hini : Cond.initialized C ∈ lw_all) (hdf : ∀ k, k < N → defaultValue (ty k) = vp_V (dfl ci) k) (hc : cells + 1 ≤ R.cells) (hs : slots + N ≤ R.slots) (hd : decode q.2.1 pc = .ok (.new idx, 3))
    (kk : ∀ H1 : Heap, va_at D am_cl (H.size, .inr (ci, dfl ci)) H1 → H1.size = H.size + 1 → (∀ x, x < H.size → H1[x]? = H[x]?) → W p l e R s m args below meth c H1 locs (cells + 1) (slots + N) Q (F0 m (pc + 3) ls (.ref H.size :: rest))) : W p l e R s m args below meth c H locs cells slots Q (F0 m pc ls rest) := by
  obtain ⟨hx, hb, -, -, -, hown, hts⟩ := cx
  have hKn := hKN.1.1 ci _ hcl
  refine W.newcK hx hb hown (hts _ hlk) (hts _ hins) (hts _ hini) rfl hd hc hs hKn.2.1 rfl fun H1 kC hkC e1 z1 o1 => ?_
  exact kk H1 ⟨_, hcl, (u_born ty hts hiw hKn hkC e1 hty).to hdf⟩ z1 o1
theorem ad_z (ad : Nat → Nat → Nat) (j k x i : Nat) : va_up ad j (va_up (ad j) (k + 1) x) i 0 = ad i 0 := by
  by_cases h : i = j
  · subst h; simp [va_up]
  · simp [va_up, h]
theorem pws_next {D : va_G} {ad : Nat → Nat → Nat} {L : Nat → Bool} {ac : Nat → ClassId} {z j : Nat} {fl cs : List Nat} {X : va_W} {k x : Nat} (h0 : ¬ (am_kd (am_cls j) k).1 = 0) (h5 : ¬ (am_kd (am_cls j) k).1 = 5) (hfl : ∀ y ∈ fl, y < k) (hcs : ∀ y ∈ cs, y < k) {en : va_E} (hen : am_ae (l, D, ad, L, ac, z) mz j k = en) :
    (pws (l, D, ad, L, ac, z) mz j fl cs X ++ [(x, en)]).set 0 (ad j 0, .inr (am_cls j, (pf ad mz j fl).set k (.ref x))) = pws (l, D, va_up ad j (va_up (ad j) (k + 1) x), L, ac, z) mz j (fl ++ [k]) (cs ++ [k]) X := by
  have hne : ∀ y, ¬ y = k → va_up ad j (va_up (ad j) (k + 1) x) j (y + 1) = ad j (y + 1) := fun y hy => by
    simp [va_up, hy]
  have hat : va_up ad j (va_up (ad j) (k + 1) x) j (k + 1) = x := by simp [va_up]
  have hae : ∀ y, am_ae (l, D, va_up ad j (va_up (ad j) (k + 1) x), L, ac, z) mz j y = am_ae (l, D, ad, L, ac, z) mz j y := fun y => by
    unfold am_ae
    simp only [ad_z]
  have e2 : (pf ad mz j fl).set k (.ref x) = pf (va_up ad j (va_up (ad j) (k + 1) x)) mz j (fl ++ [k]) := by
    refine pf_set h0 ?_ (fun y hy => ⟨Nat.ne_of_lt (hfl y hy), ?_⟩)
    · unfold am_fv
      rw [if_neg h0, if_neg h5, hat]
    · unfold am_fv
      rw [ad_z, hne y (Nat.ne_of_lt (hfl y hy))]
  have e3 : cs.map (fun k' => ((va_up ad j (va_up (ad j) (k + 1) x)) j (k' + 1), am_ae (l, D, va_up ad j (va_up (ad j) (k + 1) x), L, ac, z) mz j k')) = cs.map (fun k' => (ad j (k' + 1), am_ae (l, D, ad, L, ac, z) mz j k')) :=
    List.map_congr_left fun y hy => by rw [hne y (Nat.ne_of_lt (hcs y hy)), hae]
  show (ad j 0, Sum.inr (am_cls j, (pf ad mz j fl).set k (.ref x))) :: (X ++ cs.map (fun k' => (ad j (k' + 1), am_ae (l, D, ad, L, ac, z) mz j k')) ++ [(x, en)]) = _
  rw [e2]
  unfold pws
  rw [List.map_append]
  dsimp only
  rw [e3, ad_z, ← List.append_assoc, List.map_cons, List.map_nil, hat, hae, hen]
/-- a field gets its array -/
theorem ini_arr {D : va_G} {ad : Nat → Nat → Nat} {L : Nat → Bool} {ac : Nat → ClassId} {z j : Nat} {fl cs : List Nat} {X : va_W} (cx : iC q p s m args meth c) (hin : meth.name = "<init>") (hKN : KN l D ac s)
    (hP : va_P D am_cl (pws (l, D, ad, L, ac, z) mz j fl cs X) H) (hD : va_D A (pws (l, D, ad, L, ac, z) mz j fl cs X)) (hS : va_S A s.heap H locs) (hA : ∀ x, s.heap.size ≤ x → A x)
    {C : String} {T : u_T} {N : Nat} {ty0 : Nat → FieldType} (hcl : am_cl[am_cls j]? = some (C, T, N)) (hN : N = am_N (am_cls j)) (hiw : ∀ w ∈ u_ws C T N, w ∈ lw_all) (hty : ∀ k, k < N → parseFieldDescriptor (T k).2.2.1 = some (ty0 k)) (hnm : ∀ a, a < N → ∀ b, b < N → a ≠ b → (T a).2.1 ≠ (T b).2.1) (hC : q.1.cls = C) (h0 : ls[0]? = some (.val (.ref (ad j 0))))
    (k t n : Nat) (hk : k < N) (hkd : am_kd (am_cls j) k = (t, n)) (ht : t = 1 ∨ t = 2 ∨ t = 3) (hfl : ∀ x ∈ fl, x < k) (hcs : ∀ x ∈ cs, x < k) (hT1 : (T k).1 = C) (hfin : (T k).2.2.2 = true) {idx : Nat} (hlk : Cond.fieldLink C idx C (T k).2.1 (T k).2.2.1 ∈ lw_all) {atype : ArrayType} {ety : FieldType} (haty : newarray.typeOf atype = ety) (hac : (am_tys (l, D, ad, L, ac, z))[t - 1]? = some (ac (t - 1), ety)) (hra : ∀ c1 c2, va_RA s c1 ety → va_RA s c2 ety → c1 = c2) (hdf : defaultValue ety = .int 0) (hbt : componentBytes ety ≤ 8) (hacl : Cond.arrayClass ety ∈ lw_all) (hpd : ty0 k = .array ety) (hnf : ∀ x, narrow (.array ety) (.ref x) = .ref x ∧ fits (.array ety) (.ref x) = true)
    {v : Int32} {pn : Nat} (hv : ¬ v < 0 ∧ v.toNatClampNeg = n) (hn : n ≤ 10000) (d1 : decode q.2.1 pc = .ok (.aload_n 0, 1)) (push : ∀ st, W p l e R s m args below meth c H locs cells slots Q (F0 m pn ls (.int v :: st)) → W p l e R s m args below meth c H locs cells slots Q (F0 m (pc + 1) ls st)) (d3 : decode q.2.1 pn = .ok (.newarray atype, 2)) (d4 : decode q.2.1 (pn + 2) = .ok (.putfield idx, 3)) (hc : cells + 1 ≤ R.cells) (hs : slots + n ≤ R.slots)
    (kk : ∀ (ad' : Nat → Nat → Nat) (H1 : Heap) (locs1 : List Loc), (∀ i, ad' i 0 = ad i 0) → (∀ i, ¬ i = j → ad' i = ad i) → va_P D am_cl (pws (l, D, ad', L, ac, z) mz j (fl ++ [k]) (cs ++ [k]) X) H1 → va_D A (pws (l, D, ad', L, ac, z) mz j (fl ++ [k]) (cs ++ [k]) X) → va_S A s.heap H1 locs1 → W p l e R s m args below meth c H1 locs1 (cells + 1) (slots + n) Q (F0 m (pn + 2 + 3) ls [])) : W p l e R s m args below meth c H locs cells slots Q (F0 m pc ls []) := by
  obtain ⟨hx, hb, -, -, -, hown, hts⟩ := cx
  rw [hC] at hown
  have t0 : ¬ (am_kd (am_cls j) k).1 = 0 := by rw [hkd]; show ¬ t = 0; omega
  have t5 : ¬ (am_kd (am_cls j) k).1 = 5 := by rw [hkd]; show ¬ t = 5; omega
  have hen : am_ae (l, D, ad, L, ac, z) mz j k = .inl (ac (t - 1), n, .inl (fun _ => 0)) := by
    unfold am_ae
    rw [hkd, if_neg (show ¬ t = 4 by omega)]
    rfl
  refine lv_aload_n (x := ad j 0) hx hb d1 rfl h0 ?_
  refine push _ ?_
  refine va_newa (D := D) (cl := am_cl) (tys := am_tys (l, D, ad, L, ac, z)) (A := A) (H0 := s.heap) (a0 := (n, .inl (fun _ => 0))) (N' := n) hx hb (by rw [haty]; exact hts _ hacl) haty hKN.1 hP hD hS hA (fun cA => by rw [hdf]; rfl) hv.1 hv.2 (Nat.le_trans (Nat.mul_le_mul hn hbt) (by decide)) hc hs d3 ?_
  intro x cA H1 hK1 hP1 hD1 hS1
  have hcA : cA = ac (t - 1) := hra _ _ (hK1.2 4 (cA, ety) rfl).2 (hKN.1.2 (t - 1) _ hac).2
  subst hcA
  refine va_putF (D := D) (ci := am_cls j) (a := ad j 0) (v := .ref x) (ty := .array ety) (C := C) (T := T) (N := N) (fs := pf ad mz j fl) hx hb hts hiw ty0 hty hnm hown hKN.1 hP1 hD1 hS1 0 rfl hcl k hk (hts _ hlk) (fun y hy => by rw [hT1] at hy; exact hy) hfin hin hT1 (by rw [hty k hk, hpd]) (hnf x).1 (hnf x).2 (by unfold pf; rw [List.length_map, List.length_range, ← hN]; exact hk) d4 ?_
  intro H2 locs2 hP2 hD2 hS2
  rw [pws_next t0 t5 hfl hcs hen] at hP2 hD2
  exact kk _ H2 locs2 (fun i => ad_z ad j k x i) (fun i hi => by simp [va_up, hi]) hP2 hD2 hS2
/-- the world is whole -/
theorem pws_full {D : va_G} {ad : Nat → Nat → Nat} {L : Nat → Bool} {ac : Nat → ClassId} {z j : Nat} {fl cs : List Nat} {M : am_M} (hf : ∀ k, k < am_N (am_cls j) → ¬ (am_kd (am_cls j) k).1 = 0 → k ∈ fl) (hids : am_ids L = (j, 0) :: cs.map (fun k => (j, k + 1))) : pws (l, D, ad, L, ac, z) M j fl cs [] = am_ws (l, D, ad, L, ac, z) M := by
  unfold am_ws pws
  rw [hids, List.map_cons, List.map_map, List.nil_append]
  dsimp only
  rw [pf_full hf]
  rfl
/-- a field of a world's object is read -/
theorem raw_get {G : am_G} {M : am_M} (cx : iC q p s m args meth c) (hK : am_Kn G s) (hP : va_P G.2.1 am_cl (am_ws G M) H) {idx k j : Nat} (lk : am_kF q.1.cls idx (am_cls j) k) (hmem : (j, 0) ∈ am_ids G.2.2.2.1) {v : Value} (hv : am_fv G.2.2.1 M j k = v) (hd : decode q.2.1 pc = .ok (.getfield idx, 3)) (kk : W p l e R s m args below meth c H locs cells slots Q (F0 m (pc + 3) ls (v :: rest))) : W p l e R s m args below meth c H locs cells slots Q (F0 m pc ls (.ref (G.2.2.1 j 0) :: rest)) := by
  obtain ⟨C, T, N, ty0, hc, hN, hin, hty, hnm, hk, hT1, -, hlk⟩ := lk
  obtain ⟨q0, hq0⟩ := am_place hmem
  have he := am_ws_at (M := M) hq0
  have hfs : (am_fs G.2.2.1 M j)[k]? = some v := by rw [am_fs_at (by rw [← hN]; exact hk), hv]
  obtain ⟨hx, hb, -, -, -, hown, hts⟩ := cx
  rcases hlk with hlk | ⟨ho, hC, hlk⟩
  · exact va_get hx hb hts hin hown hK.1 hP q0 he hc k hk (hts _ hlk) (fun x hx => by rw [hT1] at hx; exact hx) hfs hd kk
  · subst hC
    have hn := va_Nw.use (A := args) rfl (hK.2.1 _ hlk)
    exact va_getN (host := "SongLamps") hx hb hts hin (by rw [← ho]; exact hown) hK.1 hP q0 he hc k hk hn (fun x hx => by rw [hT1] at hx; exact hx) hfs hd kk
/-- an int of a world's array is written -/
theorem raw_iast {G : am_G} {M : am_M} (cx : iC q p s m args meth c) (hK : am_Kn G s) (hP : va_P G.2.1 am_cl (am_ws G M) H) (hD : va_D (am_A G) (am_ws G M)) (hS : va_S (am_A G) s.heap H locs) {j k n i : Nat} {x : Int32} (h : am_kd (am_cls j) k = (1, n)) (hmem : (j, k + 1) ∈ am_ids G.2.2.2.1) (hi : i < n) (hn : n < 2 ^ 31) (hd : decode q.2.1 pc = .ok (.iastore, 1))
    (kk : ∀ (H1 : Heap) (locs1 : List Loc), va_P G.2.1 am_cl (am_ws G (am_up M j k i x)) H1 → va_D (am_A G) (am_ws G (am_up M j k i x)) → va_S (am_A G) s.heap H1 locs1 → W p l e R s m args below meth c H1 locs1 cells slots Q (F0 m (pc + 1) ls rest)) : W p l e R s m args below meth c H locs cells slots Q (F0 m pc ls (.int x :: .int (nI i) :: .ref (G.2.2.1 j (k + 1)) :: rest)) := by
  obtain ⟨q0, hq0⟩ := am_place hmem
  have he := am_ws_at (M := M) hq0
  rw [am_ae_n h (by decide)] at he
  have hset : (am_ws G M).set q0 (G.2.2.1 j (k + 1), .inl (G.2.2.2.2.1 (1 - 1), n, .inl (upd (M j k) (nI i).toNatClampNeg x))) = am_ws G (am_up M j k i x) := by
    rw [nI_clamp (by omega), ← am_ae_up (G := G) (M := M) (t := 1) h (by decide)]
    exact am_ws_set hD hq0 (fun y _ => am_ce_arr (by rw [h]; show ¬ (1 : Nat) = 0; omega) (fun a b hab => am_up_ne hab) y)
  refine va_iast cx.1 cx.2.1 hK.1 hP hD hS q0 0 he rfl (nI_in hi hn) hd ?_
  intro H1 locs1 hP1 hD1 hS1
  rw [hset] at hP1 hD1
  exact kk H1 locs1 hP1 hD1 hS1
/-- the first i of a field's ints have been laid -/
def lpM (M : am_M) (j k : Nat) (f : Nat → Int32) (i : Nat) : am_M := va_up M j (va_up (M j) k (fun x => if x < i then f x else M j k x))
theorem lpM_0 (M : am_M) (j k : Nat) (f : Nat → Int32) : lpM M j k f 0 = M := by
  unfold lpM
  have : (fun x => if x < 0 then f x else M j k x) = M j k := by funext x; rw [if_neg (by omega)]
  rw [this, up_same, up_same]
theorem lpM_s (M : am_M) (j k : Nat) (f : Nat → Int32) (i : Nat) : am_up (lpM M j k f i) j k i (f i) = lpM M j k f (i + 1) := by
  unfold lpM
  rw [sm_up, up_up2]
  congr 2
  rw [show va_up (M j) k (fun x => if x < i then f x else M j k x) k = (fun x => if x < i then f x else M j k x) by simp [va_up]]
  funext x
  by_cases e : x = i
  · subst e; simp [va_up]
  · have : (x < i + 1) = (x < i) := propext (by omega)
    simp [va_up, e, this]
/-- a constructor's loop -/
theorem ini_loop {G : am_G} {M : am_M} (cx : iC q p s m args meth c) (hK : am_Kn G s) {j k n N idx : Nat} (f : Nat → Int32) (lk : am_kF q.1.cls idx (am_cls j) k) (h : am_kd (am_cls j) k = (1, N)) (hnN : n ≤ N ∧ N ≤ 1000) (hmem : (j, 0) ∈ am_ids G.2.2.2.1) (hmem' : (j, k + 1) ∈ am_ids G.2.2.2.1) (hn : n ≤ 100) {nn : Int} (hnn : (Int8.ofInt nn).toInt32 = nI n) {p1 tgt : Nat} {off off2 : Int}
    (d0 : decode q.2.1 pc = .ok (.iload_n 1, 1)) (d1 : decode q.2.1 (pc + 1) = .ok (.bipush nn, 2)) (d3 : decode q.2.1 (pc + 3) = .ok (.if_icmp .ge off, 3)) (ht : ((pc + 3 : Nat) : Int) + off = (tgt : Int)) (d6 : decode q.2.1 (pc + 6) = .ok (.aload_n 0, 1)) (d7 : decode q.2.1 (pc + 7) = .ok (.getfield idx, 3)) (d10 : decode q.2.1 (pc + 10) = .ok (.iload_n 1, 1))
    (dv : ∀ (i : Nat) (H : Heap) (locs : List Loc) (ls : Array Slot) (st : List Value), lv_has ls 2 [(1, .int (nI i)), (0, .ref (G.2.2.1 j 0))] → W p l e R s m args below meth c H locs cells slots Q (F0 m p1 ls (.int (f i) :: st)) → W p l e R s m args below meth c H locs cells slots Q (F0 m (pc + 11) ls st))
    (ds : decode q.2.1 p1 = .ok (.iastore, 1)) (di : decode q.2.1 (p1 + 1) = .ok (.iinc 1 1, 3)) (dg : decode q.2.1 (p1 + 4) = .ok (.goto off2, 3)) (ht2 : ((p1 + 4 : Nat) : Int) + off2 = (pc : Int))
    (kk : ∀ (H1 : Heap) (locs1 : List Loc) (ls1 : Array Slot), va_P G.2.1 am_cl (am_ws G (lpM M j k f n)) H1 → va_D (am_A G) (am_ws G (lpM M j k f n)) → va_S (am_A G) s.heap H1 locs1 → lv_has ls1 2 [(1, .int (nI n)), (0, .ref (G.2.2.1 j 0))] → W p l e R s m args below meth c H1 locs1 cells slots Q (F0 m tgt ls1 [])) :
    ∀ (r i : Nat) (H : Heap) (locs : List Loc) (ls : Array Slot), i + r = n → va_P G.2.1 am_cl (am_ws G (lpM M j k f i)) H → va_D (am_A G) (am_ws G (lpM M j k f i)) → va_S (am_A G) s.heap H locs → lv_has ls 2 [(1, .int (nI i)), (0, .ref (G.2.2.1 j 0))] → W p l e R s m args below meth c H locs cells slots Q (F0 m pc ls []) := by
  have hx := cx.1
  have hb := cx.2.1
  intro r
  induction r with
  | zero =>
    intro i H locs ls hi hP hD hS hl
    have : i = n := by omega
    subst this
    refine lv_iload_n hx hb d0 rfl (lv_at hl 0 rfl) ?_
    refine lv_bipush hx hb d1 hnn ?_
    refine lv_icmp_ge hx hb d3 ht (fun _ => kk H locs ls hP hD hS hl) (fun z => absurd (Int32.le_refl _) z)
  | succ r ih =>
    intro i H locs ls hi hP hD hS hl
    refine lv_iload_n hx hb d0 rfl (lv_at hl 0 rfl) ?_
    refine lv_bipush hx hb d1 hnn ?_
    refine lv_icmp_ge hx hb d3 ht (fun z => absurd z (nI_ge (a := i) (b := n) (by omega) (by omega))) (fun _ => ?_)
    refine lv_aload_n hx hb d6 rfl (lv_at hl 1 rfl) ?_
    refine raw_get cx hK hP lk hmem (v := .ref (G.2.2.1 j (k + 1))) (by unfold am_fv; rw [h]; rfl) d7 ?_
    refine lv_iload_n hx hb d10 rfl (lv_at hl 0 rfl) ?_
    refine dv i _ _ _ _ hl ?_
    refine raw_iast cx hK hP hD hS h hmem' (show i < N by omega) (by omega) ds ?_
    intro H1 locs1 hP1 hD1 hS1
    rw [lpM_s] at hP1 hD1
    refine lv_iinc (k := 0) (x := nI i) (v := nI (i + 1)) (lv' := [(1, .int (nI (i + 1))), (0, .ref (G.2.2.1 j 0))]) hx hb di hl rfl (nI_1 i) (by omega) rfl (fun ls1 hl1 => ?_)
    refine lv_goto hx hb dg ht2 ?_
    exact ih (i + 1) H1 locs1 ls1 (by omega) hP1 hD1 hS1 hl1
/-- behind a call: the world as the callee left it -/
theorem raw_run {G : am_G} {r : Option am_V} {M' : am_M} {mc ms : Nat} {st0 : List Value} {as' : Array Value} {free : Addr → Prop} (hr : va_Run p l e R s m args below meth c H locs cells slots mc ms (F0 m pc ls st0) rest (am_QQ G r M' as') free) (hS : va_S A s.heap H locs) (hA : ∀ x, x < H.size → am_A G x → A x) (hf : ∀ x, free x → A x)
    (kk : ∀ (t : State) (H1 : Heap) (locs1 : List Loc), t.heap = H1 → am_Wd G M' t → H.size ≤ H1.size → (∀ x : Nat, x < H.size → ¬ am_A G x → H1[x]? = H[x]?) → va_S A s.heap H1 locs1 → W p l e R s m args below meth c H1 locs1 (cells + mc) (slots + ms) Q (F0 m (pc + 3) ls ((r.map (am_cv G)).toList ++ rest))) : W p l e R s m args below meth c H locs cells slots Q (F0 m pc ls st0) := by
  intro T hT X
  obtain ⟨v, st₀, t, T', L, h0, X', hL, e1, e2, ⟨hvv, hWd, hF⟩, stp⟩ := hr T hT X
  have hv2 : v = r.map (am_cv G) := by
    have := hvv
    injection this
  obtain ⟨hz, hk⟩ := hF
  rw [h0] at hz hk
  obtain ⟨t2, a1, b1⟩ := kk t T'.heap (locs ++ L) e1.symm hWd (by rw [e1]; exact hz) (fun x h1 h2 => by rw [e1]; exact hk x h1 h2)
    ⟨Nat.le_trans hS.1 (by rw [e1]; exact hz), fun x h1 h2 => by rw [e1, hk x (Nat.lt_of_lt_of_le h1 hS.1) (fun y => h2 (hA x (Nat.lt_of_lt_of_le h1 hS.1) y))]; exact hS.2.1 x h1 h2, fun x hx => by
      rcases List.mem_append.mp hx with h | h
      · exact hS.2.2 x h
      · exact hf _ (hL x h)⟩ T' rfl X'
  refine ⟨t2, stp t2 ?_, b1⟩
  rw [← hv2] at a1
  exact a1
end RAW
