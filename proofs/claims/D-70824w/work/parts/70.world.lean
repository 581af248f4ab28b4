/-! WORLDS, cell by cell -/
set_option maxRecDepth 100000
theorem P_mem {D : va_G} {cl : List vw_C} {ws : va_W} {H : Heap} (h : va_P D cl ws H) {q : Nat × va_E} (hq : q ∈ ws) : va_at D cl q H := by
  obtain ⟨k, hk⟩ := List.getElem?_of_mem hq
  exact h k q hk
theorem P_of {D : va_G} {cl : List vw_C} {ws : va_W} {H : Heap} (h : ∀ q ∈ ws, va_at D cl q H) : va_P D cl ws H := fun _ q hk => h q (List.mem_of_getElem? hk)
theorem D_inj {A : Nat → Prop} {ws : va_W} (h : va_D A ws) {p q : Nat × va_E} (hp : p ∈ ws) (hq : q ∈ ws) (e : p.1 = q.1) : p = q := by
  obtain ⟨i, hi⟩ := List.getElem?_of_mem hp
  obtain ⟨j, hj⟩ := List.getElem?_of_mem hq
  have := h.1 i j p q hi hj e
  subst this
  exact Option.some.inj (hi.symm.trans hj)
theorem D_A {A : Nat → Prop} {ws : va_W} (h : va_D A ws) {q : Nat × va_E} (hq : q ∈ ws) : A q.1 := by
  obtain ⟨i, hi⟩ := List.getElem?_of_mem hq
  exact h.2 i q hi
/-- two lists of cells, apart -/
theorem D_app {A : Nat → Prop} {w1 w2 : va_W} (h1 : va_D A w1) (h2 : va_D A w2) (h : ∀ p ∈ w1, ∀ q ∈ w2, p.1 ≠ q.1) : va_D A (w1 ++ w2) := by
  refine ⟨fun i j p q hp hq e => ?_, fun k q hq => ?_⟩
  · by_cases li : i < w1.length
    · rw [List.getElem?_append_left li] at hp
      by_cases lj : j < w1.length
      · rw [List.getElem?_append_left lj] at hq
        exact h1.1 i j p q hp hq e
      · rw [List.getElem?_append_right (by omega)] at hq
        exact absurd e (h p (List.mem_of_getElem? hp) q (List.mem_of_getElem? hq))
    · rw [List.getElem?_append_right (by omega)] at hp
      by_cases lj : j < w1.length
      · rw [List.getElem?_append_left lj] at hq
        exact absurd e.symm (h q (List.mem_of_getElem? hq) p (List.mem_of_getElem? hp))
      · rw [List.getElem?_append_right (by omega)] at hq
        have := h2.1 _ _ p q hp hq e
        omega
  · by_cases lk : k < w1.length
    · rw [List.getElem?_append_left lk] at hq
      exact h1.2 k q hq
    · rw [List.getElem?_append_right (by omega)] at hq
      exact h2.2 _ q hq
theorem D_mono {A B : Nat → Prop} {ws : va_W} (h : va_D A ws) (hAB : ∀ q, A q → B q) : va_D B ws := ⟨h.1, fun k q hq => hAB _ (h.2 k q hq)⟩
def L6 (a b c d e f : Bool) : Nat → Bool := fun j => match j with
  | 0 => a
  | 1 => b
  | 2 => c
  | 3 => d
  | 4 => e
  | 5 => f
  | _ => false
theorem ids_6 (L : Nat → Bool) : am_ids L = am_ids (L6 (L 0) (L 1) (L 2) (L 3) (L 4) (L 5)) := by
  unfold am_ids
  show List.flatMap _ [0, 1, 2, 3, 4, 5] = List.flatMap _ [0, 1, 2, 3, 4, 5]
  simp only [List.flatMap_cons, List.flatMap_nil]
  rfl
theorem ids_nd6 : ∀ a b c d e f : Bool, (am_ids (L6 a b c d e f)).Nodup := by decide +kernel
theorem ids_nd (L : Nat → Bool) : (am_ids L).Nodup := by
  rw [ids_6]
  exact ids_nd6 _ _ _ _ _ _
theorem am_mk {G : am_G} {M : am_M} {H : Heap} (h1 : ∀ c ∈ am_ids G.2.2.2.1, va_at G.2.1 am_cl (G.2.2.1 c.1 c.2, am_ce G M c) H) (h2 : ∀ c ∈ am_ids G.2.2.2.1, ∀ c' ∈ am_ids G.2.2.2.1, G.2.2.1 c.1 c.2 = G.2.2.1 c'.1 c'.2 → c = c') (h3 : ∀ c ∈ am_ids G.2.2.2.1, am_A G (G.2.2.1 c.1 c.2)) : va_P G.2.1 am_cl (am_ws G M) H ∧ va_D (am_A G) (am_ws G M) := by
  refine ⟨P_of (fun q hq => ?_), fun i j p q hp hq e => ?_, fun k q hq => ?_⟩
  · obtain ⟨c, hc, rfl⟩ := List.mem_map.mp hq
    exact h1 c hc
  · unfold am_ws at hp hq
    rw [List.getElem?_map] at hp hq
    obtain ⟨c, hc, rfl⟩ := Option.map_eq_some_iff.mp hp
    obtain ⟨c', hc', rfl⟩ := Option.map_eq_some_iff.mp hq
    have ec := h2 c (List.mem_of_getElem? hc) c' (List.mem_of_getElem? hc') e
    subst ec
    exact (List.getElem?_inj (List.getElem?_eq_some_iff.mp hc).1 (ids_nd _)).mp (hc.trans hc'.symm)
  · obtain ⟨c, hc, rfl⟩ := List.mem_map.mp (List.mem_of_getElem? hq)
    exact h3 c hc
theorem am_at {G : am_G} {M : am_M} {H : Heap} (hP : va_P G.2.1 am_cl (am_ws G M) H) {c : Nat × Nat} (hc : c ∈ am_ids G.2.2.2.1) : va_at G.2.1 am_cl (G.2.2.1 c.1 c.2, am_ce G M c) H := P_mem hP (List.mem_map.mpr ⟨c, hc, rfl⟩)
theorem am_ij {G : am_G} {M : am_M} {A : Nat → Prop} (hD : va_D A (am_ws G M)) {c c' : Nat × Nat} (hc : c ∈ am_ids G.2.2.2.1) (hc' : c' ∈ am_ids G.2.2.2.1) (e : G.2.2.1 c.1 c.2 = G.2.2.1 c'.1 c'.2) : c = c' := by
  obtain ⟨i, hi⟩ := am_place hc
  obtain ⟨j, hj⟩ := am_place hc'
  have := hD.1 i j _ _ (am_ws_at (M := M) hi) (am_ws_at (M := M) hj) e
  subst this
  exact Option.some.inj (hi.symm.trans hj)
theorem am_aA {G : am_G} {M : am_M} {A : Nat → Prop} (hD : va_D A (am_ws G M)) {c : Nat × Nat} (hc : c ∈ am_ids G.2.2.2.1) : A (G.2.2.1 c.1 c.2) := D_A hD (List.mem_map.mpr ⟨c, hc, rfl⟩)
theorem am_lt {G : am_G} {M : am_M} {H : Heap} (hP : va_P G.2.1 am_cl (am_ws G M) H) {c : Nat × Nat} (hc : c ∈ am_ids G.2.2.2.1) : G.2.2.1 c.1 c.2 < H.size := (am_at hP hc).lt
theorem kd_5 : ∀ (c : Fin 3) (k : Fin 24), (am_kd c.val k.val).1 = 5 → c.val = 0 ∧ ((am_kd c.val k.val).2 = 2 ∨ (am_kd c.val k.val).2 = 3) := by decide +kernel
theorem kd_4 : ∀ (c : Fin 3) (k : Fin 24), (am_kd c.val k.val).1 = 4 → c.val = 0 := by decide +kernel
theorem N_24 : ∀ c : Fin 3, am_N c.val ≤ 24 := by decide +kernel
theorem cls_3 (j : Nat) : am_cls j < 3 := by
  match j with
  | 0 => decide
  | 1 => decide
  | j + 2 => show 1 < 3; omega
theorem ce_cg {G G' : am_G} {M M' : am_M} {j j' k : Nat} (hk : k ≤ 24) (hc : am_cls j' = am_cls j) (hac : G'.2.2.2.2.1 = G.2.2.2.2.1) (had : ∀ k, G'.2.2.1 j' k = G.2.2.1 j k) (hM : M' j' = M j)
    (h5 : am_cls j = 0 → ∀ i, i = 2 ∨ i = 3 → G'.2.2.1 i 0 = G.2.2.1 i 0) (h4 : am_cls j = 0 → ∀ n, G'.2.2.2.1 (n + 4) = G.2.2.2.1 (n + 4) ∧ (G.2.2.2.1 (n + 4) = true → G'.2.2.1 (n + 4) 0 = G.2.2.1 (n + 4) 0)) : am_ce G' M' (j', k) = am_ce G M (j, k) := by
  have c3 := cls_3 j
  cases k with
  | zero =>
    show Sum.inr (am_cls j', am_fs G'.2.2.1 M' j') = Sum.inr (am_cls j, am_fs G.2.2.1 M j)
    rw [hc]
    congr 2
    unfold am_fs
    rw [hc]
    refine List.map_congr_left fun b hb => ?_
    have hb24 : b < 24 := Nat.lt_of_lt_of_le (List.mem_range.mp hb) (N_24 ⟨am_cls j, c3⟩)
    unfold am_fv
    rw [hc, hM, had]
    by_cases k0 : (am_kd (am_cls j) b).1 = 0
    · rw [if_pos k0, if_pos k0]
    · rw [if_neg k0, if_neg k0]
      by_cases k5 : (am_kd (am_cls j) b).1 = 5
      · rw [if_pos k5, if_pos k5]
        obtain ⟨z1, z2⟩ := kd_5 ⟨am_cls j, c3⟩ ⟨b, hb24⟩ k5
        rw [h5 z1 _ z2]
      · rw [if_neg k5, if_neg k5]
  | succ k =>
    show am_ae G' M' j' k = am_ae G M j k
    unfold am_ae
    rw [hc, hac, hM]
    by_cases k4 : (am_kd (am_cls j) k).1 = 4
    · rw [if_pos k4, if_pos k4]
      have z1 := kd_4 ⟨am_cls j, c3⟩ ⟨k, by omega⟩ k4
      congr 7
      funext n
      obtain ⟨y1, y2⟩ := h4 z1 n
      rw [y1]
      by_cases y : G.2.2.2.1 (n + 4) = true
      · rw [if_pos y, if_pos y, y2 y]
      · rw [if_neg y, if_neg y]
    · rw [if_neg k4, if_neg k4]
theorem ids_k24 {L : Nat → Bool} {j k : Nat} (h : (j, k) ∈ am_ids L) : k ≤ 24 := by
  obtain ⟨-, -, hk⟩ := am_ids_obj h
  cases k with
  | zero => omega
  | succ k =>
    have := (am_ks_isA hk).1
    have := N_24 ⟨am_cls j, cls_3 j⟩
    dsimp only at this
    omega
/-- what the tables say, without the objects -/
def KN (l : Launch) (D : va_G) (ac : Nat → ClassId) (U : State) : Prop := am_Kn (l, D, fun _ _ => 0, fun _ => false, ac, 0) U
theorem KN_to {l : Launch} {D : va_G} {ac : Nat → ClassId} {U : State} (h : KN l D ac U) {ad : Nat → Nat → Nat} {L : Nat → Bool} {z : Nat} (hL : L 0 = true → L 2 = true ∧ L 3 = true) : am_Kn (l, D, ad, L, ac, z) U := ⟨h.1, h.2.1, h.2.2.1, hL⟩
theorem KN_of {G : am_G} {U : State} (h : am_Kn G U) : KN G.1 G.2.1 G.2.2.2.2.1 U := ⟨h.1, h.2.1, h.2.2.1, fun q => by cases q⟩
theorem KN_warm {l : Launch} {D : va_G} {ac : Nat → ClassId} {s U : State} (hW : s.WarmedH U.vm) (h : KN l D ac s) : KN l D ac U := am_Kn_warm hW h
/-- the fields of an object that is being made -/
def pf (ad : Nat → Nat → Nat) (M : am_M) (j : Nat) (fl : List Nat) : List Value := (List.range (am_N (am_cls j))).map (fun k => if (am_kd (am_cls j) k).1 = 0 then .int (M j k 0) else if k ∈ fl then am_fv ad M j k else .null)
def dfl (c : Nat) : List Value := (List.range (am_N c)).map (fun k => if (am_kd c k).1 = 0 then .int 0 else .null)
def mz : am_M := fun _ _ _ => 0
theorem pf_nil (ad : Nat → Nat → Nat) (j : Nat) : pf ad mz j [] = dfl (am_cls j) := by
  unfold pf dfl
  refine List.map_congr_left fun k _ => ?_
  simp [mz]
theorem pf_set {ad ad' : Nat → Nat → Nat} {M : am_M} {j k : Nat} {fl : List Nat} {v : Value} (h0 : ¬ (am_kd (am_cls j) k).1 = 0) (hv : am_fv ad' M j k = v) (hfl : ∀ x ∈ fl, ¬ x = k ∧ am_fv ad' M j x = am_fv ad M j x) : (pf ad M j fl).set k v = pf ad' M j (fl ++ [k]) := by
  apply List.ext_getElem?
  intro i
  unfold pf
  rw [List.getElem?_set, List.getElem?_map, List.getElem?_map]
  by_cases hi : k = i
  · subst hi
    rw [if_pos rfl]
    by_cases hl : k < am_N (am_cls j)
    · rw [if_pos (by simpa using hl), List.getElem?_range hl]
      show some v = some (if _ then _ else _)
      rw [if_neg h0, if_pos (by simp), hv]
    · rw [if_neg (by simpa using hl)]
      have : (List.range (am_N (am_cls j)))[k]? = none := by simp; omega
      rw [this]
      rfl
  · rw [if_neg hi]
    cases hx : (List.range (am_N (am_cls j)))[i]? with
    | none => rfl
    | some x =>
      have hxi : x = i := by
        obtain ⟨h1, h2⟩ := List.getElem?_eq_some_iff.mp hx
        simpa using h2.symm
      subst hxi
      show some (if _ then _ else _) = some (if _ then _ else _)
      by_cases k0 : (am_kd (am_cls j) x).1 = 0
      · rw [if_pos k0, if_pos k0]
      · rw [if_neg k0, if_neg k0]
        by_cases hm : x ∈ fl
        · rw [if_pos hm, if_pos (List.mem_append_left _ hm), (hfl x hm).2]
        · rw [if_neg hm, if_neg]
          intro z
          rcases List.mem_append.mp z with z | z
          · exact hm z
          · have z' : x = k := by simpa using z
            exact hi z'.symm
theorem pf_full {ad : Nat → Nat → Nat} {M : am_M} {j : Nat} {fl : List Nat} (h : ∀ k, k < am_N (am_cls j) → ¬ (am_kd (am_cls j) k).1 = 0 → k ∈ fl) : pf ad M j fl = am_fs ad M j := by
  unfold pf am_fs
  refine List.map_congr_left fun k hk => ?_
  by_cases k0 : (am_kd (am_cls j) k).1 = 0
  · rw [if_pos k0]
    unfold am_fv
    rw [if_pos k0]
  · rw [if_neg k0, if_pos (h k (List.mem_range.mp hk) k0)]
/-- the cells of an object that is being made, and others -/
def pws (G : am_G) (M : am_M) (j : Nat) (fl cs : List Nat) (X : va_W) : va_W := (G.2.2.1 j 0, .inr (am_cls j, pf G.2.2.1 M j fl)) :: (X ++ cs.map (fun k => (G.2.2.1 j (k + 1), am_ae G M j k)))
