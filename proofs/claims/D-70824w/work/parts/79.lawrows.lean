/-! THE LAW: rows over its own frame -/
set_option maxRecDepth 100000
abbrev mL : am_Q := (x, code, 4, ret)
abbrev LX : Type := Program × Launch × Env × State × MethodId × Nat × List Frame × Method × Code
/-- the law's frame stands at pc with the stack st, the world of both is M, the counter i -/
def LW (κ : LX) (G : am_G) (M : am_M) (i cells slots pc : Nat) (st : List Value) : Prop :=
  ∀ (H : Heap) (locs : List Loc) (ls : Array Slot), va_P G.2.1 am_cl (am_ws G M) H → va_D (am_A G) (am_ws G M) → va_S (am_A G) κ.2.2.2.1.heap H locs → lv_has ls 4 [(3, .int (nI i)), (2, .ref (G.2.2.1 1 0)), (1, .ref (G.2.2.1 0 0)), (0, .ref κ.2.2.2.2.2.1)] →
    W κ.1 κ.2.1 κ.2.2.1 room_1 κ.2.2.2.1 κ.2.2.2.2.1 #[Value.ref κ.2.2.2.2.2.1] κ.2.2.2.2.2.2.1 κ.2.2.2.2.2.2.2.1 κ.2.2.2.2.2.2.2.2 H locs cells slots (lw_Z κ.2.2.2.2.2.2.1 #[Value.ref κ.2.2.2.2.2.1] κ.2.2.2.1) (F0 κ.2.2.2.2.1 pc ls st)
/-- what stands all through the law -/
def LK (κ : LX) (Ln : Nat) (xs : Nat → Int32) (G : am_G) : Prop :=
  lw_At κ.1 κ.2.2.2.1 κ.2.2.2.2.1 κ.2.2.2.2.2.2.2.1 κ.2.2.2.2.2.2.2.2 κ.2.2.2.2.2.1 Ln xs ∧ am_Kn G κ.2.2.2.1 ∧ G.1 = κ.2.1 ∧ G.2.2.2.2.2 = κ.2.2.2.1.heap.size ∧ ∀ j, j < 4 → G.2.2.2.1 j = true
def bo (x : Int32) : Int32 := if x = 0 then 0 else 1
def aI : am_V → Bool
  | .inl _ => true
  | _ => false
theorem aI_ok {G : am_G} {as : List am_V} (h : as.all aI = true) : ∀ v ∈ as, am_vok G v := by
  intro v hv
  have := List.all_eq_true.mp h v hv
  match v, this with
  | .inl _, _ => exact trivial
section LAW
variable {κ : LX} {Ln : Nat} {xs : Nat → Int32} {G : am_G} {M : am_M} {i cells slots pc : Nat} {st : List Value}
theorem LK_iC (hk : LK κ Ln xs G) : iC mL κ.1 κ.2.2.2.1 κ.2.2.2.2.1 #[Value.ref κ.2.2.2.2.2.1] κ.2.2.2.2.2.2.2.1 κ.2.2.2.2.2.2.2.2 := ⟨hk.1.1, hk.1.2.1, hk.1.2.2.1, hk.1.2.2.2.2.2.2.2.2.1, hk.1.2.2.2.1, hk.1.2.2.2.2.1, fun w h => hk.1.2.2.2.2.2.1 w (lw_all_tbl h)⟩
theorem LW_wd {a b : Nat} (h : LW κ G M i (cells + a) (slots + b) pc st) : LW κ G M i cells slots pc st := fun H locs ls hP hD hS hl => W.widen (k := cells + a) (n := slots + b) (Nat.le_add_right _ _) (Nat.le_add_right _ _) (h H locs ls hP hD hS hl)
theorem lw_al1 (hk : LK κ Ln xs G) (d : decode cL_law pc = .ok (.aload_n 1, 1)) (kk : LW κ G M i cells slots (pc + 1) (.ref (G.2.2.1 0 0) :: st)) : LW κ G M i cells slots pc st := fun H locs ls hP hD hS hl =>
  lv_aload_n hk.1.1 hk.1.2.1 d rfl (lv_at hl 2 rfl) (kk H locs ls hP hD hS hl)
theorem lw_al2 (hk : LK κ Ln xs G) (d : decode cL_law pc = .ok (.aload_n 2, 1)) (kk : LW κ G M i cells slots (pc + 1) (.ref (G.2.2.1 1 0) :: st)) : LW κ G M i cells slots pc st := fun H locs ls hP hD hS hl =>
  lv_aload_n hk.1.1 hk.1.2.1 d rfl (lv_at hl 1 rfl) (kk H locs ls hP hD hS hl)
theorem lw_nA (hk : LK κ Ln xs G) : ¬ am_A G κ.2.2.2.2.2.1 := fun h => by
  have h1 : G.2.2.2.2.2 ≤ κ.2.2.2.2.2.1 := h
  have h2 := hk.1.2.2.2.2.2.2.2.1
  rw [hk.2.2.2.1] at h1
  omega
/-- script[i + k] -/
theorem lw_arg (hk : LK κ Ln xs G) (k : Nat) {kn : Int} (hkn : Int32.ofInt kn = nI k) (hi : i + k < Ln ∧ Ln ≤ 384) (d0 : decode cL_law pc = .ok (.aload_n 0, 1)) (d1 : decode cL_law (pc + 1) = .ok (.iload_n 3, 1)) (d2 : decode cL_law (pc + 1 + 1) = .ok (.iconst kn, 1)) (d3 : decode cL_law (pc + 1 + 1 + 1) = .ok (.iadd, 1)) (d4 : decode cL_law (pc + 1 + 1 + 1 + 1) = .ok (.iaload, 1)) (kk : LW κ G M i cells slots (pc + 1 + 1 + 1 + 1 + 1) (.int (xs (i + k)) :: st)) : LW κ G M i cells slots pc st := fun H locs ls hP hD hS hl => by
  have hx := hk.1.1
  have hb := hk.1.2.1
  refine lv_aload_n hx hb d0 rfl (lv_at hl 3 rfl) ?_
  refine lv_iload_n hx hb d1 rfl (lv_at hl 0 rfl) ?_
  refine lv_iconst hx hb d2 hkn ?_
  refine lv_iadd hx hb d3 ?_
  rw [nI_add]
  refine va_sld hx hb hk.1.2.2.2.2.2.2.1 hk.1.2.2.2.2.2.2.2.1 (lw_nA hk) hS (nI_in hi.1 (by omega)) d4 ?_
  rw [nI_clamp (by omega)]
  exact kk H locs ls hP hD hS hl
/-- what is not 0 -/
theorem lw_ne0 (hk : LK κ Ln xs G) {y : Int32} (d0 : decode cL_law pc = .ok (.ifCond .eq 7, 3)) (d1 : decode cL_law (pc + 3) = .ok (.iconst 1, 1)) (d2 : decode cL_law (pc + 3 + 1) = .ok (.goto 4, 3)) (d3 : decode cL_law (pc + 7) = .ok (.iconst 0, 1)) (kk : LW κ G M i cells slots (pc + 8) (.int (bo y) :: st)) : LW κ G M i cells slots pc (.int y :: st) := fun H locs ls hP hD hS hl => by
  have hx := hk.1.1
  have hb := hk.1.2.1
  have k0 := kk H locs ls hP hD hS hl
  refine lv_if_eq (tgt := pc + 7) hx hb d0 (by omega) (fun h => ?_) (fun h => ?_)
  · refine lv_iconst hx hb d3 ic_0 ?_
    rw [show bo y = 0 from if_pos h] at k0
    exact k0
  · refine lv_iconst hx hb d1 ic_1 ?_
    refine lv_goto (tgt := pc + 8) hx hb d2 (by omega) ?_
    rw [show bo y = 1 from if_neg h] at k0
    exact k0
/-- a call of one of the two -/
theorem lw_cl {β : Type} {q2 : am_Q} {d2 idx n : Nat} (j : Nat) {as : List am_V} {g2 : β → Option am_V × am_M} {o2 : Option β} {r : β} {rest : List Value} (hk : LK κ Ln xs G) (lk : am_kV "SongLampsLaw" idx (am_cls j) q2 n) (hj : j < 2) (hM : am_C G d2 q2 (am_r j 0 :: as) M g2 o2) (ho : o2 = some r) (hva : as.all aI = true) (hfr : Nat.ble (d2 + 1) 14 = true) (hlo : Nat.ble (8 + (q2.2.2.1 + 11) + 30 * d2) 534 = true) (hn : as.length = n) (hst : st = (as.map (am_cv G)).reverse ++ .ref (G.2.2.1 j 0) :: rest) (hrest : (rest.map fun v => v.category).sum ≤ 8) (hd : decode cL_law pc = .ok (.invokevirtual idx, 3)) (hc : cells ≤ 600000) (hs : slots ≤ 7302250)
    (kk : LW κ G (g2 r).2 i cells slots (pc + 3) (((g2 r).1.map (am_cv G)).toList ++ rest)) : LW κ G M i cells slots pc st := fun H locs ls hP hD hS hl => by
  have hmem : (j, 0) ∈ am_ids G.2.2.2.1 := am_ids_of (hk.2.2.2.2 j (by omega)) (by omega) List.mem_cons_self
  refine raw_callV (G := G) (M := M) (q2 := q2) (d2 := d2) (j := j) (as := as) (q := mL) hk.2.2.1 (LK_iC hk) hk.2.1 hP hD hS lk hM ho (fun v hv => ?_) (Nat.le_of_ble_eq_true hfr) (Nat.le_of_ble_eq_true hlo) hn hst hl.1 hrest hd hc hs ?_
  · rcases List.mem_cons.mp hv with h | h
    · rw [h]; exact hmem
    · exact aI_ok hva v h
  · intro H1 locs1 hP1 hD1 hS1
    exact kk H1 locs1 ls hP1 hD1 hS1 hl
/-- the two answers are the same -/
theorem lw_eq (hk : LK κ Ln xs G) {r : Int32} {off : Int} (d : decode cL_law pc = .ok (.if_icmp .eq off, 3)) (ht : (pc : Int) + off = ((1091 : Nat) : Int)) (kk : LW κ G M i cells slots 1091 st) : LW κ G M i cells slots pc (.int r :: .int r :: st) := fun H locs ls hP hD hS hl =>
  lv_icmp_eq (tgt := 1091) hk.1.1 hk.1.2.1 d ht (fun _ => kk H locs ls hP hD hS hl) (fun h => absurd rfl h)
theorem lw_eql (hk : LK κ Ln xs G) {r : Int64} {off : Int} (d : decode cL_law pc = .ok (.lcmp, 1)) (d1 : decode cL_law (pc + 1) = .ok (.ifCond .eq off, 3)) (ht : ((pc + 1 : Nat) : Int) + off = ((1091 : Nat) : Int)) (kk : LW κ G M i cells slots 1091 st) : LW κ G M i cells slots pc (.long r :: .long r :: st) := fun H locs ls hP hD hS hl => by
  refine W.lcmp hk.1.1 hk.1.2.1 d ?_
  refine lv_if_eq (tgt := 1091) hk.1.1 hk.1.2.1 d1 ht (fun _ => kk H locs ls hP hD hS hl) (fun h => absurd ?_ h)
  simp [lg_cmp]
end LAW
