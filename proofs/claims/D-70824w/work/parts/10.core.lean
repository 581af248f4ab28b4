/-! CORE: an abstract view of the machine for this claim. Memory is one function of object, field, index;
values are ints, longs, and references to cells by number. am_R says that the machine, at a place of a method,
comes to its end with what the Option o tells. Each row of this part turns am_R at an instruction into am_R at the next. -/
set_option maxRecDepth 100000
abbrev am_V : Type := (Int32 ⊕ Int64) ⊕ Option (Nat × Nat)
abbrev am_M : Type := Nat → Nat → Nat → Int32
abbrev am_i (x : Int32) : am_V := .inl (.inl x)
abbrev am_l (x : Int64) : am_V := .inl (.inr x)
abbrev am_r (j k : Nat) : am_V := .inr (some (j, k))
abbrev am_n : am_V := .inr none
/-- launch; classes' numbers and slots; addresses; which objects live; classes of arrays; the first address of the world -/
abbrev am_G : Type := Launch × va_G × (Nat → Nat → Nat) × (Nat → Bool) × (Nat → ClassId) × Nat
/-- a method: its name, its bytes, how many locals, what it answers -/
abbrev am_Q : Type := MethodName × ByteArray × Nat × Option FieldType
/-- the class of an object: 0 the system, 1 the reference, from 2 on mines -/
def am_cls : Nat → Nat
  | 0 => 0
  | 1 => 2
  | _ + 2 => 1
/-- how a field is: 0 an int, 1 ints, 2 chars, 3 booleans, 4 the row of mines, 5 an object; its length, or which object -/
def am_kds : List (List (Nat × Nat)) :=
  [[(5, 2), (5, 3), (4, 2), (2, 60), (0, 0), (1, 60), (1, 60), (1, 60), (0, 0), (0, 0), (0, 0), (0, 0), (0, 0), (1, 1000), (1, 3), (1, 3), (1, 100), (1, 25)],
   [(1, 10), (1, 10), (1, 10), (0, 0), (0, 0), (0, 0), (1, 8), (1, 8), (1, 8), (1, 8), (1, 8), (1, 8), (0, 0), (1, 8), (1, 8), (0, 0), (1, 10)],
   [(1, 36), (1, 36), (0, 0), (1, 8), (1, 8), (1, 8), (1, 10), (1, 10), (0, 0), (0, 0), (1, 16), (0, 0), (1, 60), (0, 0), (0, 0), (1, 10), (0, 0), (0, 0), (1, 10), (3, 10000), (1, 100), (1, 25), (1, 220), (3, 2)]]
def am_kd (c k : Nat) : Nat × Nat := (am_kds.getD c []).getD k (9, 0)
def am_N (c : Nat) : Nat := (am_kds.getD c []).length
/-- a kind of which the field has an array of its own -/
def am_isA (q : Nat × Nat) : Bool := q.1 == 1 || q.1 == 2 || q.1 == 3 || q.1 == 4
/-- the cells of an object of a class: 0 itself, k + 1 the array of its field k -/
def am_ks (c : Nat) : List Nat := 0 :: ((List.range (am_N c)).filter (fun k => am_isA (am_kd c k))).map (· + 1)
def am_ids (L : Nat → Bool) : List (Nat × Nat) := (List.range 6).flatMap (fun j => if L j = true then (am_ks (am_cls j)).map (fun k => (j, k)) else [])
def am_fv (ad : Nat → Nat → Nat) (M : am_M) (j k : Nat) : Value :=
  if (am_kd (am_cls j) k).1 = 0 then .int (M j k 0) else if (am_kd (am_cls j) k).1 = 5 then .ref (ad (am_kd (am_cls j) k).2 0) else .ref (ad j (k + 1))
def am_fs (ad : Nat → Nat → Nat) (M : am_M) (j : Nat) : List Value := (List.range (am_N (am_cls j))).map (am_fv ad M j)
def am_ae (G : am_G) (M : am_M) (j k : Nat) : va_E :=
  if (am_kd (am_cls j) k).1 = 4 then .inl (G.2.2.2.2.1 3, (am_kd (am_cls j) k).2, .inr (.inr (.inr (.inr (fun n => if G.2.2.2.1 (n + 4) = true then some (G.2.2.1 (n + 4) 0) else none)))))
  else .inl (G.2.2.2.2.1 ((am_kd (am_cls j) k).1 - 1), (am_kd (am_cls j) k).2, .inl (M j k))
def am_ce (G : am_G) (M : am_M) : Nat × Nat → va_E
  | (j, 0) => .inr (am_cls j, am_fs G.2.2.1 M j)
  | (j, k + 1) => am_ae G M j k
def am_ws (G : am_G) (M : am_M) : va_W := (am_ids G.2.2.2.1).map (fun c => (G.2.2.1 c.1 c.2, am_ce G M c))
abbrev am_cl : List vw_C := [(RX0, TX0, 18), (RX1, TX1, 17), (RX2, TX2, 24)]
abbrev am_tys (G : am_G) : List (ClassId × FieldType) := [(G.2.2.2.2.1 0, .int), (G.2.2.2.2.1 1, .char), (G.2.2.2.2.1 2, .boolean), (G.2.2.2.2.1 3, .object "SongLamps$Mine")]
def am_A (G : am_G) : Nat → Prop := fun q => G.2.2.2.2.2 ≤ q
/-- words of nest mates, which ride in the world -/
def am_nf : List (Nat × String × String) := [(88, "passages", "[I"), (100, "echo", "[I"), (209, "coal", "[I"), (103, "gas", "I"), (225, "closed", "I"), (112, "present", "I"), (115, "low", "[I"), (118, "high", "[I"), (121, "lungs", "[I"), (124, "breath", "[I"), (127, "place", "[I"), (130, "note", "[I"), (212, "beat", "I"), (280, "sightGallery", "[I"), (283, "sightNote", "[I"), (277, "sights", "I")]
def am_nm : List (Nat × String × String) := [(48, "fill", "([II)V"), (72, "holds", "(II)Z"), (52, "layOver", "([I[I)V"), (102, "isIn", "(JJJ)Z"), (83, "isThird", "(II)Z")]
def am_Kn (G : am_G) (U : State) : Prop := va_K G.2.1 am_cl (am_tys G) U ∧ (∀ q ∈ am_nf, va_Nw (.fieldLinkNest "SongLamps" q.1 "SongLamps$Mine" q.2.1 q.2.2 "SongLamps") U) ∧ (∀ q ∈ am_nm, va_Nw (.methodLinkNest "SongLamps$Mine" q.1 ⟨"SongLamps", q.2.1, q.2.2⟩ "SongLamps") U) ∧ (G.2.2.2.1 0 = true → G.2.2.2.1 2 = true ∧ G.2.2.2.1 3 = true)
def am_Wd (G : am_G) (M : am_M) (U : State) : Prop := va_P G.2.1 am_cl (am_ws G M) U.heap ∧ va_D (am_A G) (am_ws G M) ∧ am_Kn G U
def am_cv (G : am_G) : am_V → Value
  | .inl (.inl x) => .int x
  | .inl (.inr x) => .long x
  | .inr none => .null
  | .inr (some c) => .ref (G.2.2.1 c.1 c.2)
def am_vok (G : am_G) : am_V → Prop
  | .inr (some c) => c ∈ am_ids G.2.2.2.1
  | _ => True
def am_vs (G : am_G) (st : List am_V) : Prop := ∀ v ∈ st, am_vok G v
def am_lr (G : am_G) (nL : Nat) (ls : List (Option am_V)) (lsA : Array Slot) : Prop := lsA.size = nL ∧ lv_wf lsA ∧ ∀ (i : Nat) (v : am_V), ls[i]? = some (some v) → lsA[i]? = some (.val (am_cv G v)) ∧ am_vok G v
def am_rm (d : Nat) : Room := { frames := d, cells := 0, slots := 0, locals := 30 * d }
def am_QQ (G : am_G) (r : Option am_V) (M : am_M) : Array Value → State → Outcome → State → Prop := fun _ st oc t => oc = .returned (r.map (am_cv G)) ∧ am_Wd G M t ∧ va_F (am_A G) st t
def am_cx (G : am_G) (q : am_Q) (p : Program) (s : State) (m : MethodId) (args : Array Value) (meth : Method) (c : Code) : Prop :=
  p.tables.exec = Jvm.exec ∧ c.code = q.2.1 ∧ meth.sig.returnType = q.2.2.2 ∧ meth.locks = false ∧ c.maxLocals = q.2.2.1 ∧ s.vm.findClass q.1.cls = some m.cls ∧ (∀ w ∈ lw_all, w.before args s = true) ∧ am_Kn G s
def am_R {α : Type} (G : am_G) (d : Nat) (q : am_Q) (g : α → Option am_V × am_M) (pc : Nat) (ls : List (Option am_V)) (st : List am_V) (M : am_M) (o : Option α) : Prop :=
  ∀ a, o = some a → ∀ (p : Program) (e : Env) (s : State) (m : MethodId) (args : Array Value) (below : List Frame) (meth : Method) (c : Code) (H : Heap) (locs : List Loc) (lsA : Array Slot),
    am_cx G q p s m args meth c → va_P G.2.1 am_cl (am_ws G M) H → va_D (am_A G) (am_ws G M) → va_S (am_A G) s.heap H locs → am_lr G q.2.2.1 ls lsA → am_vs G st →
    W p G.1 e (am_rm d) s m args below meth c H locs 0 0 (MQ below (am_QQ G (g a).1 (g a).2) args s 0 0 (am_A G)) (F0 m pc lsA (st.map (am_cv G)))
/-- a method's contract: from the world M with these arguments it returns what o tells -/
def am_C {α : Type} (G : am_G) (d : Nat) (q : am_Q) (as : List am_V) (M : am_M) (g : α → Option am_V × am_M) (o : Option α) : Prop :=
  ∀ a, o = some a → am_vs G as → Met G.1 q.1 (ws_ q.1 q.2.1 q.2.2.1 q.2.2.2) (am_rm d) (va_Pc (as.map (am_cv G)) (fun U => am_Wd G M U)) (am_QQ G (g a).1 (g a).2) 0 0 (am_A G)
/-! memory -/
def am_up (M : am_M) (j k i : Nat) (v : Int32) : am_M := va_up M j (va_up (M j) k (va_up (M j k) i v))
def am_rd (f : Nat → Int32) (n : Nat) (i : Int32) : Option Int32 := if i < 0 ∨ n ≤ i.toNatClampNeg then none else some (f i.toNatClampNeg)
def am_wr (M : am_M) (j k n : Nat) (i v : Int32) : Option am_M := if i < 0 ∨ n ≤ i.toNatClampNeg then none else some (am_up M j k i.toNatClampNeg v)
def am_put (M : am_M) (j k : Nat) (v : Int32) : am_M := am_up M j k 0 v
theorem am_up_ne {M : am_M} {j k i : Nat} {v : Int32} {a b : Nat} (h : ¬ (a = j ∧ b = k)) : am_up M j k i v a b = M a b := by
  unfold am_up va_up
  by_cases h1 : a = j
  · subst h1
    by_cases h2 : b = k
    · exact absurd ⟨rfl, h2⟩ h
    · simp [h2]
  · simp [h1]
theorem am_up_eq {M : am_M} {j k i : Nat} {v : Int32} : am_up M j k i v j k = va_up (M j k) i v := by
  unfold am_up
  simp [va_up]
/-! places in the list of cells -/
theorem am_place {L : Nat → Bool} {c : Nat × Nat} (h : c ∈ am_ids L) : ∃ q : Nat, (am_ids L)[q]? = some c := List.getElem?_of_mem h
theorem am_ws_at {G : am_G} {M : am_M} {c : Nat × Nat} {q : Nat} (h : (am_ids G.2.2.2.1)[q]? = some c) : (am_ws G M)[q]? = some (G.2.2.1 c.1 c.2, am_ce G M c) := by
  unfold am_ws
  rw [List.getElem?_map, h]
  rfl
/-- a world's one cell changed: the list with that cell set is the list of the new memory -/
theorem am_ws_set {G : am_G} {M M1 : am_M} {c : Nat × Nat} {q : Nat} (hD : va_D (am_A G) (am_ws G M)) (h : (am_ids G.2.2.2.1)[q]? = some c) (hn : ∀ x, x ∈ am_ids G.2.2.2.1 → x ≠ c → am_ce G M1 x = am_ce G M x) : (am_ws G M).set q (G.2.2.1 c.1 c.2, am_ce G M1 c) = am_ws G M1 := by
  apply List.ext_getElem?
  intro i
  rw [List.getElem?_set]
  by_cases hi : q = i
  · subst hi
    rw [if_pos rfl, am_ws_at h]
    have hl : q < (am_ws G M).length := by
      have h1 := am_ws_at (M := M) h
      exact (List.getElem?_eq_some_iff.mp h1).1
    rw [if_pos hl]
  · rw [if_neg hi]
    unfold am_ws
    rw [List.getElem?_map, List.getElem?_map]
    cases hx : (am_ids G.2.2.2.1)[i]? with
    | none => rfl
    | some x =>
      show some (G.2.2.1 x.1 x.2, am_ce G M x) = some (G.2.2.1 x.1 x.2, am_ce G M1 x)
      rw [hn x (List.mem_of_getElem? hx)]
      intro e
      subst e
      exact hi (hD.1 q i _ _ (am_ws_at h) (am_ws_at hx) rfl)
theorem am_D_any {G : am_G} {M M1 : am_M} (h : va_D (am_A G) (am_ws G M)) : va_D (am_A G) (am_ws G M1) := by
  have key : ∀ (i : Nat) (p : Nat × va_E), (am_ws G M1)[i]? = some p → ∃ p' : Nat × va_E, (am_ws G M)[i]? = some p' ∧ p'.1 = p.1 := by
    intro i p hp
    unfold am_ws at hp ⊢
    rw [List.getElem?_map] at hp ⊢
    cases hx : (am_ids G.2.2.2.1)[i]? with
    | none => rw [hx] at hp; cases hp
    | some x =>
      rw [hx] at hp
      cases hp
      exact ⟨_, rfl, rfl⟩
  refine ⟨fun i j p q hp hq e => ?_, fun k q hq => ?_⟩
  · obtain ⟨p', h1, h2⟩ := key i p hp
    obtain ⟨q', h3, h4⟩ := key j q hq
    exact h.1 i j p' q' h1 h3 (by rw [h2, h4]; exact e)
  · obtain ⟨q', h1, h2⟩ := key k q hq
    rw [← h2]
    exact h.2 k q' h1
theorem am_ids_obj {L : Nat → Bool} {j k : Nat} (h : (j, k) ∈ am_ids L) : L j = true ∧ j < 6 ∧ k ∈ am_ks (am_cls j) := by
  unfold am_ids at h
  obtain ⟨a, ha, hm⟩ := List.mem_flatMap.mp h
  by_cases hL : L a = true
  · rw [if_pos hL] at hm
    obtain ⟨k', hk', e⟩ := List.mem_map.mp hm
    cases e
    exact ⟨hL, List.mem_range.mp ha, hk'⟩
  · rw [if_neg hL] at hm
    cases hm
theorem am_ids_of {L : Nat → Bool} {j k : Nat} (h1 : L j = true) (h2 : j < 6) (h3 : k ∈ am_ks (am_cls j)) : (j, k) ∈ am_ids L := by
  unfold am_ids
  refine List.mem_flatMap.mpr ⟨j, List.mem_range.mpr h2, ?_⟩
  rw [if_pos h1]
  exact List.mem_map.mpr ⟨k, h3, rfl⟩
theorem am_ks_arr {c k : Nat} (hk : k < am_N c) (h : am_isA (am_kd c k) = true) : k + 1 ∈ am_ks c := by
  unfold am_ks
  refine List.mem_cons_of_mem _ (List.mem_map.mpr ⟨k, List.mem_filter.mpr ⟨List.mem_range.mpr hk, h⟩, rfl⟩)
theorem am_ks_isA {c k : Nat} (h : k + 1 ∈ am_ks c) : k < am_N c ∧ am_isA (am_kd c k) = true := by
  unfold am_ks at h
  rcases List.mem_cons.mp h with h | h
  · cases h
  · obtain ⟨k', hk', e⟩ := List.mem_map.mp h
    have : k' = k := by omega
    subst this
    have := List.mem_filter.mp hk'
    exact ⟨List.mem_range.mp this.1, this.2⟩
/-- the object of a cell, as a cell -/
theorem am_ids_up {L : Nat → Bool} {j k : Nat} (h : (j, k) ∈ am_ids L) : (j, 0) ∈ am_ids L := by
  obtain ⟨h1, h2, -⟩ := am_ids_obj h
  exact am_ids_of h1 h2 List.mem_cons_self
theorem am_ids_arr {L : Nat → Bool} {j k : Nat} (h : (j, 0) ∈ am_ids L) (hk : k < am_N (am_cls j)) (ha : am_isA (am_kd (am_cls j) k) = true) : (j, k + 1) ∈ am_ids L := by
  obtain ⟨h1, h2, -⟩ := am_ids_obj h
  exact am_ids_of h1 h2 (am_ks_arr hk ha)
/-- the world when one array's cell is written -/
theorem am_ce_arr {G : am_G} {M M1 : am_M} {j k : Nat} (hk : ¬ (am_kd (am_cls j) k).1 = 0) (h : ∀ a b : Nat, ¬ (a = j ∧ b = k) → M1 a b = M a b) : ∀ x, x ≠ (j, k + 1) → am_ce G M1 x = am_ce G M x := by
  intro x hx
  obtain ⟨a, b⟩ := x
  cases b with
  | zero =>
    have e : am_fs G.2.2.1 M1 a = am_fs G.2.2.1 M a := by
      unfold am_fs
      refine List.map_congr_left fun b _ => ?_
      unfold am_fv
      by_cases h0 : (am_kd (am_cls a) b).1 = 0
      · have hne : ¬ (a = j ∧ b = k) := by
          rintro ⟨rfl, rfl⟩
          exact hk h0
        rw [h a b hne]
      · rw [if_neg h0, if_neg h0]
    show Sum.inr (am_cls a, am_fs G.2.2.1 M1 a) = Sum.inr (am_cls a, am_fs G.2.2.1 M a)
    rw [e]
  | succ b =>
    have hne : ¬ (a = j ∧ b = k) := by
      rintro ⟨rfl, rfl⟩
      exact hx rfl
    show am_ae G M1 a b = am_ae G M a b
    unfold am_ae
    rw [h a b hne]
/-- the world when one int field is written -/
theorem am_ce_fld {G : am_G} {M M1 : am_M} {j k : Nat} (hk : (am_kd (am_cls j) k).1 = 0) (h : ∀ a b : Nat, ¬ (a = j ∧ b = k) → M1 a b = M a b) : ∀ x, x ∈ am_ids G.2.2.2.1 → x ≠ (j, 0) → am_ce G M1 x = am_ce G M x := by
  intro x hi hx
  obtain ⟨a, b⟩ := x
  cases b with
  | zero =>
    have ha : ¬ a = j := fun e => hx (by rw [e])
    have e : am_fs G.2.2.1 M1 a = am_fs G.2.2.1 M a := by
      unfold am_fs
      refine List.map_congr_left fun b _ => ?_
      unfold am_fv
      rw [h a b (fun q => ha q.1)]
    show Sum.inr (am_cls a, am_fs G.2.2.1 M1 a) = Sum.inr (am_cls a, am_fs G.2.2.1 M a)
    rw [e]
  | succ b =>
    have hne : ¬ (a = j ∧ b = k) := by
      rintro ⟨rfl, rfl⟩
      have h1 := (am_ks_isA (am_ids_obj hi).2.2).2
      unfold am_isA at h1
      rw [hk] at h1
      exact absurd h1 (by decide)
    show am_ae G M1 a b = am_ae G M a b
    unfold am_ae
    rw [h a b hne]
theorem am_fs_set {ad : Nat → Nat → Nat} {M : am_M} {j k : Nat} {v : Int32} (hk : (am_kd (am_cls j) k).1 = 0) : (am_fs ad M j).set k (.int v) = am_fs ad (am_put M j k v) j := by
  apply List.ext_getElem?
  intro i
  unfold am_fs
  rw [List.getElem?_set, List.getElem?_map, List.getElem?_map]
  by_cases hi : k = i
  · subst hi
    rw [if_pos rfl]
    by_cases hl : k < am_N (am_cls j)
    · rw [if_pos (by simpa using hl), List.getElem?_range hl]
      show some _ = some _
      unfold am_fv
      rw [if_pos hk]
      unfold am_put
      rw [am_up_eq]
      simp [va_up]
    · rw [if_neg (by simpa using hl)]
      have : (List.range (am_N (am_cls j)))[k]? = none := by simp; omega
      rw [this]
      rfl
  · rw [if_neg hi]
    cases hx : (List.range (am_N (am_cls j)))[i]? with
    | none => rfl
    | some x =>
      have hxi : x = i := by
        have := List.getElem?_eq_some_iff.mp hx
        obtain ⟨h1, h2⟩ := this
        simpa using h2.symm
      subst hxi
      show some _ = some _
      unfold am_fv
      by_cases h0 : (am_kd (am_cls j) x).1 = 0
      · rw [if_pos h0, if_pos h0]
        unfold am_put
        rw [am_up_ne (fun q => hi q.2.symm)]
      · rw [if_neg h0, if_neg h0]
theorem am_fs_at {ad : Nat → Nat → Nat} {M : am_M} {j k : Nat} (hk : k < am_N (am_cls j)) : (am_fs ad M j)[k]? = some (am_fv ad M j k) := by
  unfold am_fs
  rw [List.getElem?_map, List.getElem?_range hk]
  rfl
theorem am_fs_len {ad : Nat → Nat → Nat} {M : am_M} {j : Nat} : (am_fs ad M j).length = am_N (am_cls j) := by
  unfold am_fs
  simp
/-! locals -/
def am_lvl (G : am_G) (ls : List (Option am_V)) : List (Nat × Value) := (List.range ls.length).filterMap (fun i => match ls[i]? with
  | some (some v) => some (i, am_cv G v)
  | _ => none)
theorem am_lvl_mem {G : am_G} {ls : List (Option am_V)} {i : Nat} {v : am_V} (h : ls[i]? = some (some v)) : (i, am_cv G v) ∈ am_lvl G ls := by
  unfold am_lvl
  refine List.mem_filterMap.mpr ⟨i, List.mem_range.mpr (List.getElem?_eq_some_iff.mp h).1, ?_⟩
  rw [h]
theorem am_lvl_of {G : am_G} {ls : List (Option am_V)} {q : Nat × Value} (h : q ∈ am_lvl G ls) : ∃ v, ls[q.1]? = some (some v) ∧ q.2 = am_cv G v := by
  unfold am_lvl at h
  obtain ⟨i, -, hi⟩ := List.mem_filterMap.mp h
  split at hi
  · next v hv =>
    cases hi
    exact ⟨v, hv, rfl⟩
  · cases hi
theorem am_has {G : am_G} {nL : Nat} {ls : List (Option am_V)} {lsA : Array Slot} (h : am_lr G nL ls lsA) : lv_has lsA nL (am_lvl G ls) := by
  refine ⟨h.1, h.2.1, fun q hq => ?_⟩
  obtain ⟨v, h1, h2⟩ := am_lvl_of hq
  rw [h2]
  exact (h.2.2 q.1 v h1).1
/-- no long lies just ahead of the place i -/
def am_nl (ls : List (Option am_V)) (i : Nat) : Bool := match i with
  | 0 => true
  | i + 1 => match ls[i]? with
    | some (some (.inl (.inr _))) => false
    | _ => true
theorem am_nl_cat {G : am_G} {ls : List (Option am_V)} {i j : Nat} {v : am_V} (h : am_nl ls i = true) (hj : ls[j]? = some (some v)) (e : j + 1 = i) : (am_cv G v).category = 1 := by
  subst e
  simp only [am_nl, hj] at h
  match v, h with
  | .inl (.inl x), _ => rfl
  | .inl (.inr x), h => exact absurd h (by simp)
  | .inr none, _ => rfl
  | .inr (some c), _ => rfl
theorem am_lr_st1 {G : am_G} {nL i : Nat} {ls ls' : List (Option am_V)} {lsA lsB : Array Slot} {v : am_V} (h : am_lr G nL ls lsA) (hn : am_nl ls i = true) (hv : am_vok G v) (hl : ls.set i (some v) = ls')
    (hB : lv_has lsB nL ((i, am_cv G v) :: (am_lvl G ls).filter (fun q => !(q.1 == i) && !(q.1 + 1 == i && q.2.category == 2)))) : am_lr G nL ls' lsB := by
  refine ⟨hB.1, hB.2.1, fun j w hw => ?_⟩
  subst hl
  rw [List.getElem?_set] at hw
  by_cases hj : i = j
  · subst hj
    rw [if_pos rfl] at hw
    split at hw
    · cases hw
      exact ⟨hB.2.2 (i, am_cv G v) List.mem_cons_self, hv⟩
    · cases hw
  · rw [if_neg hj] at hw
    refine ⟨hB.2.2 (j, am_cv G w) (List.mem_cons_of_mem _ (List.mem_filter.mpr ⟨am_lvl_mem hw, ?_⟩)), (h.2.2 j w hw).2⟩
    have h1 : (j == i) = false := by simp; omega
    by_cases h2 : j + 1 = i
    · have h3 := am_nl_cat (G := G) hn hw h2
      simp [h1, h3]
    · simp [h1, h2]
theorem am_lr_st2 {G : am_G} {nL i : Nat} {ls ls' : List (Option am_V)} {lsA lsB : Array Slot} {v : am_V} (h : am_lr G nL ls lsA) (hn : am_nl ls i = true) (hv : am_vok G v) (hl : (ls.set i (some v)).set (i + 1) none = ls')
    (hB : lv_has lsB nL ((i, am_cv G v) :: (am_lvl G ls).filter (fun q => !(q.1 == i) && (!(q.1 == i + 1) && !(q.1 + 1 == i && q.2.category == 2))))) : am_lr G nL ls' lsB := by
  refine ⟨hB.1, hB.2.1, fun j w hw => ?_⟩
  subst hl
  rw [List.getElem?_set] at hw
  by_cases hj2 : i + 1 = j
  · subst hj2
    rw [if_pos rfl] at hw
    split at hw
    · cases hw
    · cases hw
  · rw [if_neg hj2, List.getElem?_set] at hw
    by_cases hj : i = j
    · subst hj
      rw [if_pos rfl] at hw
      split at hw
      · cases hw
        exact ⟨hB.2.2 (i, am_cv G v) List.mem_cons_self, hv⟩
      · cases hw
    · rw [if_neg hj] at hw
      refine ⟨hB.2.2 (j, am_cv G w) (List.mem_cons_of_mem _ (List.mem_filter.mpr ⟨am_lvl_mem hw, ?_⟩)), (h.2.2 j w hw).2⟩
      have h1 : (j == i) = false := by simp; omega
      have h1' : (j == i + 1) = false := by simp; omega
      by_cases h2 : j + 1 = i
      · have h3 := am_nl_cat (G := G) hn hw h2
        simp [h1, h1', h3]
      · simp [h1, h1', h2]
/-- fewer locals known -/
def am_sub : List (Option am_V) → List (Option am_V) → Prop
  | [], _ => True
  | none :: a, [] => am_sub a []
  | none :: a, _ :: b => am_sub a b
  | some v :: a, w :: b => w = some v ∧ am_sub a b
  | some _ :: _, [] => False
theorem am_sub_at : ∀ {a b : List (Option am_V)} (_ : am_sub a b) {i : Nat} {v : am_V}, a[i]? = some (some v) → b[i]? = some (some v)
  | [], _, _, i, v, h => by simp at h
  | none :: a, [], hs, i, v, h => by
    cases i with
    | zero => simp at h
    | succ i =>
      simp only [List.getElem?_cons_succ] at h
      exact absurd (am_sub_at (a := a) (b := []) hs h) (by simp)
  | none :: a, w :: b, hs, i, v, h => by
    cases i with
    | zero => simp at h
    | succ i =>
      simp only [List.getElem?_cons_succ] at h ⊢
      exact am_sub_at (a := a) (b := b) hs h
  | some u :: a, w :: b, hs, i, v, h => by
    cases i with
    | zero =>
      simp only [List.getElem?_cons_zero] at h ⊢
      rw [hs.1]
      exact h
    | succ i =>
      simp only [List.getElem?_cons_succ] at h ⊢
      exact am_sub_at (a := a) (b := b) hs.2 h
  | some u :: a, [], hs, i, v, h => hs.elim
theorem am_lr_sub {G : am_G} {nL : Nat} {ls ls' : List (Option am_V)} {lsA : Array Slot} (h : am_lr G nL ls lsA) (hs : am_sub ls' ls) : am_lr G nL ls' lsA := ⟨h.1, h.2.1, fun i v hv => h.2.2 i v (am_sub_at hs hv)⟩
/-! what holds of a world through moves of the machine's tables -/
theorem am_Kn_warm {G : am_G} {s U : State} (hW : s.WarmedH U.vm) (h : am_Kn G s) : am_Kn G U := ⟨va_K.moved hW.alike h.1, fun q hq => va_Nw.warmF hW (h.2.1 q hq), fun q hq => va_Nw.warmM hW (h.2.2.1 q hq), h.2.2.2⟩
theorem am_Kn_same {G : am_G} {s U : State} (hv : s.vm = U.vm) (h : am_Kn G s) : am_Kn G U := ⟨va_K.moved (by rw [hv]; exact Vm.Alike.refl _) h.1, fun q hq => va_Nw.same rfl hv (h.2.1 q hq), fun q hq => va_Nw.same rfl hv (h.2.2.1 q hq), h.2.2.2⟩
theorem am_blind {G : am_G} {M : am_M} {as : List Value} : FrameBlind (va_Pc as (fun U => am_Wd G M U)) := fun a U g mk q => by
  obtain ⟨q0, qP, qD, qK⟩ := q
  exact ⟨q0, qP, qD, am_Kn_same (s := U) (U := U.calling g mk a) rfl qK⟩
/-! rows that move nothing but the place and the stack -/
section AMR
variable {α : Type} {G : am_G} {d : Nat} {q : am_Q} {g : α → Option am_V × am_M} {pc : Nat} {ls : List (Option am_V)} {st : List am_V} {M : am_M} {o : Option α}
theorem am_none : am_R G d q g pc ls st M (none : Option α) := fun a h => by cases h
theorem am_lift {pc' : Nat} {st' : List am_V} (hv : am_vs G st → am_vs G st')
    (hrow : ∀ (p : Program) (e : Env) (s : State) (m : MethodId) (args : Array Value) (below : List Frame) (meth : Method) (c : Code) (H : Heap) (locs : List Loc) (lsA : Array Slot) (Q : State → Prop), am_cx G q p s m args meth c → am_lr G q.2.2.1 ls lsA → am_vs G st →
      va_P G.2.1 am_cl (am_ws G M) H → va_D (am_A G) (am_ws G M) → W p G.1 e (am_rm d) s m args below meth c H locs 0 0 Q (F0 m pc' lsA (st'.map (am_cv G))) → W p G.1 e (am_rm d) s m args below meth c H locs 0 0 Q (F0 m pc lsA (st.map (am_cv G))))
    (k : am_R G d q g pc' ls st' M o) : am_R G d q g pc ls st M o := by
  intro a ha p e s m args below meth c H locs lsA cx hP hD hS hl hs
  exact hrow p e s m args below meth c H locs lsA _ cx hl hs hP hD (k a ha p e s m args below meth c H locs lsA cx hP hD hS hl (hv hs))
theorem am_drop {ls' : List (Option am_V)} (hs : am_sub ls' ls) (k : am_R G d q g pc ls' st M o) : am_R G d q g pc ls st M o := by
  intro a ha p e s m args below meth c H locs lsA cx hP hD hS hl hst
  exact k a ha p e s m args below meth c H locs lsA cx hP hD hS (am_lr_sub hl hs) hst
theorem am_vs_c {v : am_V} {st : List am_V} (h1 : am_vok G v) (h2 : am_vs G st) : am_vs G (v :: st) := List.forall_mem_cons.mpr ⟨h1, h2⟩
theorem am_vs_t {v : am_V} {st : List am_V} (h : am_vs G (v :: st)) : am_vs G st := (List.forall_mem_cons.mp h).2
theorem am_vs_h {v : am_V} {st : List am_V} (h : am_vs G (v :: st)) : am_vok G v := (List.forall_mem_cons.mp h).1
theorem am_vs_i {x : Int32} {st : List am_V} (h2 : am_vs G st) : am_vs G (am_i x :: st) := am_vs_c (v := am_i x) trivial h2
theorem am_vs_l {x : Int64} {st : List am_V} (h2 : am_vs G st) : am_vs G (am_l x :: st) := am_vs_c (v := am_l x) trivial h2
end AMR
