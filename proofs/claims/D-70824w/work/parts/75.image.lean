/-! THE SYSTEM'S image -/
set_option maxRecDepth 100000
abbrev mX0_image : am_Q := (yX0_image, cX0_image, 2, some .int)
section RAWC
variable {p : Program} {l : Launch} {e : Env} {R : Room} {s : State} {m : MethodId} {args : Array Value} {below : List Frame} {meth : Method} {c : Code} {H : Heap} {locs : List Loc} {cells slots : Nat} {Q : State → Prop} {q : am_Q} {pc : Nat} {ls : Array Slot} {rest : List Value}
/-- a static call, in any room -/
theorem raw_callS {β : Type} {G : am_G} {M : am_M} {q2 : am_Q} {d2 idx n : Nat} {as : List am_V} {g2 : β → Option am_V × am_M} {o2 : Option β} {b : β} {st : List Value} (hG1 : G.1 = l) (cx : iC q p s m args meth c) (hK : am_Kn G s) (hP : va_P G.2.1 am_cl (am_ws G M) H) (hD : va_D (am_A G) (am_ws G M)) (hS : va_S (am_A G) s.heap H locs) (lk : am_kS q.1.cls idx q2 n) (hM : am_C G d2 q2 as M g2 o2) (ho : o2 = some b) (hva : am_vs G as) (hfr : d2 + 1 ≤ R.frames) (hlo : 8 + (q2.2.2.1 + 11) + 30 * d2 ≤ R.locals) (hn : as.length = n) (hst : st = (as.map (am_cv G)).reverse ++ rest) (hsz : ls.size = q.2.2.1) (hrest : (rest.map fun v => v.category).sum ≤ 8) (hd : decode q.2.1 pc = .ok (.invokestatic idx, 3)) (hc : cells ≤ R.cells) (hs : slots ≤ R.slots)
    (kk : ∀ (H1 : Heap) (locs1 : List Loc), va_P G.2.1 am_cl (am_ws G (g2 b).2) H1 → va_D (am_A G) (am_ws G (g2 b).2) → va_S (am_A G) s.heap H1 locs1 → W p l e R s m args below meth c H1 locs1 cells slots Q (F0 m (pc + 3) ls (((g2 b).1.map (am_cv G)).toList ++ rest))) : W p l e R s m args below meth c H locs cells slots Q (F0 m pc ls st) := by
  subst hG1
  subst hst
  obtain ⟨hG, hdsc⟩ := lk
  have hts := cx.2.2.2.2.2.2
  refine raw_run (A := am_A G) (va_runS (As := as.map (am_cv G)) (nL := q.2.2.1) (n := n) ⟨cx.1, cx.2.1, cx.2.2.2.2.1, cx.2.2.2.2.2.1, hts⟩ (hM b ho hva) (va_cwS n hts hG rfl rfl rfl hdsc ⟨hfr, hlo⟩) ⟨am_blind, fun U hU hW => ⟨rfl, by rw [hU]; exact hP, hD, am_Kn_warm hW hK⟩⟩ rfl (by rw [List.length_map]; exact hn) hsz rfl (lv_room hrest) hd ⟨hc, hs⟩) hS (fun x _ h => h) (fun x h => h) ?_
  intro t H1 locs1 ht hWd hz hk hS1
  exact kk H1 locs1 (by rw [← ht]; exact hWd.1) hWd.2.1 hS1
/-- a call through an object, in any room -/
theorem raw_callV {β : Type} {G : am_G} {M : am_M} {q2 : am_Q} {d2 idx n j : Nat} {as : List am_V} {g2 : β → Option am_V × am_M} {o2 : Option β} {b : β} {st : List Value} (hG1 : G.1 = l) (cx : iC q p s m args meth c) (hK : am_Kn G s) (hP : va_P G.2.1 am_cl (am_ws G M) H) (hD : va_D (am_A G) (am_ws G M)) (hS : va_S (am_A G) s.heap H locs) (lk : am_kV q.1.cls idx (am_cls j) q2 n) (hM : am_C G d2 q2 (am_r j 0 :: as) M g2 o2) (ho : o2 = some b) (hva : am_vs G (am_r j 0 :: as)) (hfr : d2 + 1 ≤ R.frames) (hlo : 8 + (q2.2.2.1 + 11) + 30 * d2 ≤ R.locals) (hn : as.length = n) (hst : st = (as.map (am_cv G)).reverse ++ .ref (G.2.2.1 j 0) :: rest) (hsz : ls.size = q.2.2.1) (hrest : (rest.map fun v => v.category).sum ≤ 8) (hd : decode q.2.1 pc = .ok (.invokevirtual idx, 3)) (hc : cells ≤ R.cells) (hs : slots ≤ R.slots)
    (kk : ∀ (H1 : Heap) (locs1 : List Loc), va_P G.2.1 am_cl (am_ws G (g2 b).2) H1 → va_D (am_A G) (am_ws G (g2 b).2) → va_S (am_A G) s.heap H1 locs1 → W p l e R s m args below meth c H1 locs1 cells slots Q (F0 m (pc + 3) ls (((g2 b).1.map (am_cv G)).toList ++ rest))) : W p l e R s m args below meth c H locs cells slots Q (F0 m pc ls st) := by
  subst hG1
  subst hst
  obtain ⟨C, T, N, hcl, hG, hdsc⟩ := lk
  have hts := cx.2.2.2.2.2.2
  have hmem : (j, 0) ∈ am_ids G.2.2.2.1 := hva (am_r j 0) List.mem_cons_self
  obtain ⟨q0, hq0⟩ := am_place hmem
  have he := am_ws_at (M := M) hq0
  refine raw_run (A := am_A G) (va_runV (As := as.map (am_cv G)) (b := G.2.2.1 j 0) (nL := q.2.2.1) (n := n) ⟨cx.1, cx.2.1, cx.2.2.2.2.1, cx.2.2.2.2.2.1, hts⟩ (hM b ho hva) (cwV n hts hG rfl rfl rfl hdsc ⟨hfr, hlo⟩) ⟨am_blind, va_recv hK.1 hP hcl he, fun U hU hW => ⟨rfl, by rw [hU]; exact hP, hD, am_Kn_warm hW hK⟩⟩ rfl (by rw [List.length_map]; exact hn) hsz rfl (lv_room hrest) hd ⟨hc, hs⟩) hS (fun x _ h => h) (fun x h => h) ?_
  intro t H1 locs1 ht hWd hz hk hS1
  exact kk H1 locs1 (by rw [← ht]; exact hWd.1) hWd.2.1 hS1
end RAWC
/-- the row of images, as a function -/
def imf (G : am_G) : Nat → Option Nat := fun n => if G.2.2.2.1 (n + 4) = true then some (G.2.2.1 (n + 4) 0) else none
theorem ae_img (G : am_G) (M : am_M) : am_ce G M (0, 3) = .inl (G.2.2.2.2.1 3, 2, .inr (.inr (.inr (.inr (imf G))))) := rfl
theorem L023 {G : am_G} {s : State} (hK : am_Kn G s) (h0 : (0, 0) ∈ am_ids G.2.2.2.1) : (2, 0) ∈ am_ids G.2.2.2.1 ∧ (0, 3) ∈ am_ids G.2.2.2.1 := by
  have hL := hK.2.2.2 (am_ids_obj h0).1
  exact ⟨am_ids_of hL.1 (by decide) List.mem_cons_self, am_ids_of (am_ids_obj h0).1 (by decide) (by decide)⟩
section IMG
variable {p : Program} {e : Env} {R : Room} {s : State} {m : MethodId} {args : Array Value} {below : List Frame} {meth : Method} {c : Code} {H : Heap} {locs : List Loc} {cells slots : Nat} {Q : State → Prop} {ls : Array Slot}
/-- one of the row of images is read -/
theorem img_ld {G : am_G} {M : am_M} {pc n : Nat} {rest : List Value} (hn : n < 2) (cx : iC mX0_image p s m args meth c) (hK : am_Kn G s) (hP : va_P G.2.1 am_cl (am_ws G M) H) (h0 : (0, 0) ∈ am_ids G.2.2.2.1) (hl : lv_has ls 2 [(0, .ref (G.2.2.1 0 0)), (1, .int (nI n))]) (d0 : decode cX0_image pc = .ok (.aload_n 0, 1)) (d1 : decode cX0_image (pc + 1) = .ok (.getfield 45, 3)) (d2 : decode cX0_image (pc + 1 + 3) = .ok (.iload_n 1, 1)) (d3 : decode cX0_image (pc + 1 + 3 + 1) = .ok (.aaload, 1)) (kk : W p G.1 e R s m args below meth c H locs cells slots Q (F0 m (pc + 1 + 3 + 1 + 1) ls (va_rf (imf G n) :: rest))) : W p G.1 e R s m args below meth c H locs cells slots Q (F0 m pc ls rest) := by
  refine lv_aload_n cx.1 cx.2.1 d0 rfl (lv_at hl 0 rfl) ?_
  refine raw_get cx hK hP (j := 0) (k := 2) lf_X0_45 h0 (v := .ref (G.2.2.1 0 3)) rfl d1 ?_
  refine lv_iload_n cx.1 cx.2.1 d2 rfl (lv_at hl 1 rfl) ?_
  obtain ⟨q0, hq0⟩ := am_place (L023 hK h0).2
  have he := am_ws_at (M := M) hq0
  rw [ae_img] at he
  refine va_aldq cx.1 cx.2.1 hK.1 hP q0 3 he rfl (nI_in hn (by omega)) d3 ?_
  rw [nI_clamp (by omega)]
  exact kk
/-- the take at the end -/
theorem img_tail {G : am_G} {M : am_M} {n : Nat} (hn : n < 2) (cx : iC mX0_image p s m args meth c) (hK : am_Kn G s) (hP : va_P G.2.1 am_cl (am_ws G M) H) (hD : va_D (am_A G) (am_ws G M)) (hS : va_S (am_A G) s.heap H locs) (h0 : (0, 0) ∈ am_ids G.2.2.2.1) (hT : G.2.2.2.1 (n + 4) = true) (hl : lv_has ls 2 [(0, .ref (G.2.2.1 0 0)), (1, .int (nI n))]) (hfr : 4 ≤ R.frames) (hlo : 120 ≤ R.locals) (hc : cells ≤ R.cells) (hs : slots ≤ R.slots)
    (kk : ∀ (H1 : Heap) (locs1 : List Loc), va_P G.2.1 am_cl (am_ws G (va_up M (n + 4) (tkR (M 2) (M (n + 4))))) H1 → va_D (am_A G) (am_ws G (va_up M (n + 4) (tkR (M 2) (M (n + 4))))) → va_S (am_A G) s.heap H1 locs1 → W p G.1 e R s m args below meth c H1 locs1 cells slots Q (F0 m 45 ls [])) : W p G.1 e R s m args below meth c H locs cells slots Q (F0 m 32 ls []) := by
  refine img_ld hn cx hK hP h0 hl dX0_image_32 dX0_image_33 dX0_image_36 dX0_image_37 ?_
  rw [show va_rf (imf G n) = .ref (G.2.2.1 (n + 4) 0) by unfold imf; rw [if_pos hT]; rfl]
  refine lv_aload_n cx.1 cx.2.1 dX0_image_38 rfl (lv_at hl 0 rfl) ?_
  refine raw_get cx hK hP (j := 0) (k := 0) lf_X0_38 h0 (v := .ref (G.2.2.1 2 0)) rfl dX0_image_39 ?_
  have hv4 : (n + 4, 0) ∈ am_ids G.2.2.2.1 := am_ids_of hT (by omega) List.mem_cons_self
  refine raw_callV (G := G) (M := M) (q2 := mX1_take) (d2 := 2) (j := n + 4) (as := [am_r 2 0]) rfl cx hK hP hD hS (lk := lc_X0_163) (kX1_take G M (n + 2) 0) (take_eq M (j := n + 2) (j1 := 0) (by omega)) ?_ (by omega) (by show 8 + (2 + 11) + 30 * 2 ≤ R.locals; omega) rfl rfl hl.1 (by decide) dX0_image_42 hc hs ?_
  · intro v hv
    rcases List.mem_cons.mp hv with h | h
    · rw [h]; exact hv4
    · rw [List.mem_singleton.mp h]; exact (L023 hK h0).1
  · intro H1 locs1 hP1 hD1 hS1
    exact kk H1 locs1 hP1 hD1 hS1
end IMG
theorem kd_4' : ∀ (c : Fin 3) (k : Fin 24), (am_kd c.val k.val).1 = 4 → c.val = 0 ∧ k.val = 2 := by decide +kernel
theorem ce_cg2 {G G' : am_G} {M M' : am_M} {j k : Nat} (hk : k ≤ 24) (hac : G'.2.2.2.2.1 = G.2.2.2.2.1) (had : ∀ k, G'.2.2.1 j k = G.2.2.1 j k) (hM : M' j = M j)
    (h5 : am_cls j = 0 → ∀ i, i = 2 ∨ i = 3 → G'.2.2.1 i 0 = G.2.2.1 i 0) (h4 : am_cls j = 0 → k ≠ 3) : am_ce G' M' (j, k) = am_ce G M (j, k) := by
  have c3 := cls_3 j
  cases k with
  | zero =>
    show Sum.inr (am_cls j, am_fs G'.2.2.1 M' j) = Sum.inr (am_cls j, am_fs G.2.2.1 M j)
    congr 2
    unfold am_fs
    refine List.map_congr_left fun b hb => ?_
    have hb24 : b < 24 := Nat.lt_of_lt_of_le (List.mem_range.mp hb) (N_24 ⟨am_cls j, c3⟩)
    unfold am_fv
    rw [hM, had]
    by_cases k0 : (am_kd (am_cls j) b).1 = 0
    · rw [if_pos k0, if_pos k0]
    · rw [if_neg k0, if_neg k0]
      by_cases k5 : (am_kd (am_cls j) b).1 = 5
      · rw [if_pos k5, if_pos k5]
        obtain ⟨z1, z2⟩ := kd_5 ⟨am_cls j, c3⟩ ⟨b, hb24⟩ k5
        rw [h5 z1 _ z2]
      · rw [if_neg k5, if_neg k5]
  | succ k =>
    show am_ae G' M' j k = am_ae G M j k
    unfold am_ae
    rw [hac, hM]
    by_cases k4 : (am_kd (am_cls j) k).1 = 4
    · obtain ⟨z1, z2⟩ := kd_4' ⟨am_cls j, c3⟩ ⟨k, by omega⟩ k4
      have z3 : k = 2 := z2
      exact absurd (by rw [z3]) (h4 z1)
    · rw [if_neg k4, if_neg k4]
theorem cls_0 {j : Nat} (h : am_cls j = 0) : j = 0 := by
  match j with
  | 0 => rfl
  | 1 => exact absurd h (by decide)
  | j + 2 =>
    have h' : (1 : Nat) = 0 := h
    omega
/-- the world with a new mine in the row of images -/
theorem img_new {l : Launch} {D : va_G} {ad ad1 : Nat → Nat → Nat} {L : Nat → Bool} {ac : Nat → ClassId} {z : Nat} {M : am_M} {n a1 q0 : Nat} {H : Heap} (hn : n < 2) (hF : L (n + 4) = false) (ha : ad1 2 0 = a1) (hq0 : (am_ids L)[q0]? = some (0, 3))
    (hP : va_P D am_cl ((am_ws (l, D, ad, L, ac, z) M ++ am_ws (l, D, ad1, oL 2, ac, a1) mineM).set q0 (ad 0 3, .inl (ac 3, 2, .inr (.inr (.inr (.inr (va_up (imf (l, D, ad, L, ac, z)) n (some a1)))))))) H) (hD : va_D (fun x => z ≤ x) ((am_ws (l, D, ad, L, ac, z) M ++ am_ws (l, D, ad1, oL 2, ac, a1) mineM).set q0 (ad 0 3, .inl (ac 3, 2, .inr (.inr (.inr (.inr (va_up (imf (l, D, ad, L, ac, z)) n (some a1))))))))) :
    va_P D am_cl (am_ws (l, D, va_up ad (n + 4) (ad1 2), va_up L (n + 4) true, ac, z) (va_up M (n + 4) (mineM 2))) H ∧ va_D (fun x => z ≤ x) (am_ws (l, D, va_up ad (n + 4) (ad1 2), va_up L (n + 4) true, ac, z) (va_up M (n + 4) (mineM 2))) := by
  have hlen : q0 < (am_ids L).length := (List.getElem?_eq_some_iff.mp hq0).1
  have hlen' : q0 < (am_ws (l, D, ad, L, ac, z) M).length := by unfold am_ws; rw [List.length_map]; exact hlen
  have w2 : am_ws (l, D, ad1, oL 2, ac, a1) mineM = ((am_ids (oL 2)).map (fun c => (n + 4, c.2))).map (fun c => ((va_up ad (n + 4) (ad1 2)) c.1 c.2, am_ce (l, D, va_up ad (n + 4) (ad1 2), va_up L (n + 4) true, ac, z) (va_up M (n + 4) (mineM 2)) c)) := by
    rw [List.map_map]
    refine List.map_congr_left fun c hc => ?_
    obtain ⟨j, k⟩ := c
    have hj : j = 2 := ids_oL2 hc
    subst hj
    have e1 : va_up ad (n + 4) (ad1 2) (n + 4) = ad1 2 := by simp [va_up]
    show (ad1 2 k, am_ce (l, D, ad1, oL 2, ac, a1) mineM (2, k)) = ((va_up ad (n + 4) (ad1 2)) (n + 4) k, am_ce (l, D, va_up ad (n + 4) (ad1 2), va_up L (n + 4) true, ac, z) (va_up M (n + 4) (mineM 2)) (n + 4, k))
    rw [ce_cg (G := (l, D, va_up ad (n + 4) (ad1 2), va_up L (n + 4) true, ac, z)) (G' := (l, D, ad1, oL 2, ac, a1)) (M := va_up M (n + 4) (mineM 2)) (M' := mineM) (j := n + 4) (j' := 2) (ids_k24 hc) rfl rfl (fun k => by show ad1 2 k = va_up ad (n + 4) (ad1 2) (n + 4) k; rw [e1]) (by simp [va_up]) (fun q => by cases q) (fun q => by cases q), e1]
  have w1 : (am_ws (l, D, ad, L, ac, z) M).set q0 (ad 0 3, .inl (ac 3, 2, .inr (.inr (.inr (.inr (va_up (imf (l, D, ad, L, ac, z)) n (some a1))))))) = (am_ids L).map (fun c => ((va_up ad (n + 4) (ad1 2)) c.1 c.2, am_ce (l, D, va_up ad (n + 4) (ad1 2), va_up L (n + 4) true, ac, z) (va_up M (n + 4) (mineM 2)) c)) := by
    apply List.ext_getElem?
    intro i
    rw [List.getElem?_set, List.getElem?_map]
    by_cases hi : q0 = i
    · subst hi
      rw [if_pos rfl, if_pos hlen', hq0]
      show some (ad 0 3, Sum.inl (ac 3, 2, Sum.inr (Sum.inr (Sum.inr (Sum.inr (va_up (imf (l, D, ad, L, ac, z)) n (some a1))))))) = some ((va_up ad (n + 4) (ad1 2)) 0 3, Sum.inl (ac 3, 2, Sum.inr (Sum.inr (Sum.inr (Sum.inr (imf (l, D, va_up ad (n + 4) (ad1 2), va_up L (n + 4) true, ac, z)))))))
      have e0 : va_up ad (n + 4) (ad1 2) 0 3 = ad 0 3 := by
        have : ¬ 0 = n + 4 := by omega
        simp [va_up, this]
      have e1 : va_up (imf (l, D, ad, L, ac, z)) n (some a1) = imf (l, D, va_up ad (n + 4) (ad1 2), va_up L (n + 4) true, ac, z) := by
        funext x
        by_cases hx : x = n
        · subst hx
          unfold imf
          simp [va_up, ha]
        · have : ¬ x + 4 = n + 4 := by omega
          unfold imf
          simp [va_up, hx]
      rw [e0, e1]
    · rw [if_neg hi]
      unfold am_ws
      rw [List.getElem?_map]
      cases hx : (am_ids L)[i]? with
      | none => rfl
      | some x =>
        obtain ⟨j, k⟩ := x
        have hm : (j, k) ∈ am_ids L := List.mem_of_getElem? hx
        have hne : ¬ j = n + 4 := fun ej => by
          have := (am_ids_obj hm).1
          rw [ej, hF] at this
          cases this
        have h3 : ¬ (j = 0 ∧ k = 3) := fun ej => by
          refine hi ((List.getElem?_inj hlen (ids_nd _)).mp ?_)
          rw [hq0, hx, ej.1, ej.2]
        have e0 : va_up ad (n + 4) (ad1 2) j = ad j := by simp [va_up, hne]
        show some (ad j k, am_ce (l, D, ad, L, ac, z) M (j, k)) = some (va_up ad (n + 4) (ad1 2) j k, am_ce (l, D, va_up ad (n + 4) (ad1 2), va_up L (n + 4) true, ac, z) (va_up M (n + 4) (mineM 2)) (j, k))
        rw [ce_cg2 (G := (l, D, ad, L, ac, z)) (G' := (l, D, va_up ad (n + 4) (ad1 2), va_up L (n + 4) true, ac, z)) (M := M) (M' := va_up M (n + 4) (mineM 2)) (ids_k24 hm) rfl (fun k => by show va_up ad (n + 4) (ad1 2) j k = ad j k; rw [e0]) (by simp [va_up, hne]) (fun _ i hi2 => by
          have : ¬ i = n + 4 := by omega
          show va_up ad (n + 4) (ad1 2) i 0 = ad i 0
          simp [va_up, this]) (fun q ek => h3 ⟨cls_0 q, ek⟩), e0]
  rw [List.set_append_left _ _ hlen', w1, w2, ← List.map_append] at hP hD
  refine am_mk' (G := (l, D, va_up ad (n + 4) (ad1 2), va_up L (n + 4) true, ac, z)) (M := va_up M (n + 4) (mineM 2)) hP hD (fun x h => h) (fun c hc => ?_)
  obtain ⟨j, k⟩ := c
  obtain ⟨h1, h2, h3⟩ := am_ids_obj hc
  by_cases hj : j = n + 4
  · subst hj
    exact List.mem_append_right _ (List.mem_map.mpr ⟨(2, k), am_ids_of (by decide) (by decide) h3, rfl⟩)
  · refine List.mem_append_left _ (am_ids_of ?_ h2 h3)
    have : va_up L (n + 4) true j = L j := by simp [va_up, hj]
    rw [← this]
    exact h1
