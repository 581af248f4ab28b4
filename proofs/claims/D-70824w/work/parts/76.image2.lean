/-! THE SYSTEM'S image: its contract -/
set_option maxRecDepth 100000
/-- what image answers and leaves -/
def imP (G : am_G) (M : am_M) (a : Int32) (r : Int32) (u : (Nat → Nat → Nat) × (Nat → Bool) × am_M) : Prop :=
  (∀ j, j < 4 → u.1 j = G.2.2.1 j) ∧ (∀ j, j < 4 → u.2.1 j = G.2.2.2.1 j) ∧ ((fX2_in a 0 1 = 0 ∧ r = -2 ∧ u.2.1 = G.2.2.2.1 ∧ u.2.2 = M) ∨ ∃ n, n < 2 ∧ a = nI n ∧ r = 1 ∧ (∀ i, i ≠ n + 4 → u.2.1 i = G.2.2.2.1 i) ∧ u.2.1 (n + 4) = true ∧ (∀ o, o ≠ n + 4 → u.2.2 o = M o) ∧ ∃ m0, u.2.2 (n + 4) = tkR (M 2) m0)
set_option maxHeartbeats 4000000 in
theorem kX0_image (G : am_G) (M : am_M) (a : Int32) (h0 : (0, 0) ∈ am_ids G.2.2.2.1) : Met G.1 yX0_image (ws_ yX0_image cX0_image 2 (some .int)) (rmI 4 13 121) (va_Pc [.ref (G.2.2.1 0 0), .int a] (fun U => am_Wd G M U)) (va_Qi (S := (Nat → Nat → Nat) × (Nat → Bool) × am_M) (imP G M a) (fun u t => am_Wd (G.1, G.2.1, u.1, u.2.1, G.2.2.2.2.1, G.2.2.2.2.2) u.2.2 t) (am_A G)) 13 121 (am_A G) := by
  refine Met.ofW (cc := cX0_image) (maxL := 2) (ret := some .int) (by decide) rfl ?_
  intro p e s m args below meth c s₁ B hml hv
  obtain ⟨rfl, hP, hD, hK⟩ := hv
  have hts := atoms_spec (ws := ws_ yX0_image cX0_image 2 (some .int)) B.pre
  have hts : ∀ w ∈ lw_all, w.before _ s = true := fun w h => hts w (List.mem_cons_of_mem _ h)
  have hown : s.vm.findClass RX0 = some m.cls := findClass_of_methodNamed B.named
  have cx : iC mX0_image p s m _ meth c := ⟨B.exec, B.bytes, B.returns, B.notSynchronized, hml, hown, hts⟩
  have hx := B.exec
  have hb := B.bytes
  have hr := B.returns
  have hlocks := B.notSynchronized
  have hl := lv_entry ([.ref (G.2.2.1 0 0), .int a]) (n := 2) (Nat.le_of_ble_eq_true rfl)
  rw [lg_entry_eq]
  generalize (lg_sl ([.ref (G.2.2.1 0 0), .int a]) ++ List.replicate (2 - (lg_sl ([.ref (G.2.2.1 0 0), .int a])).length) Slot.unset).toArray = ls at hl ⊢
  have hl : lv_has ls 2 [(0, .ref (G.2.2.1 0 0)), (1, .int a)] := hl
  have hS : va_S (am_A G) s.heap s.heap [] := va_S.rf
  have hA : ∀ x, s.heap.size ≤ x → am_A G x := fun x hx => by
    have h1 : G.2.2.2.2.2 ≤ G.2.2.1 0 0 := am_aA hD h0
    have h2 : G.2.2.1 0 0 < s.heap.size := am_lt hP h0
    show G.2.2.2.2.2 ≤ x
    omega
  refine lv_iload_n hx hb dX0_image_0 rfl (lv_at hl 1 rfl) ?_
  refine raw_callS (G := G) (M := M) (q2 := mX0_isEnd) (d2 := 2) (as := [am_i a]) (rest := []) rfl cx hK hP hD hS (lk := lc_X0_197) (kX0_isEnd G M a) rfl (fun v hv => by rw [List.mem_singleton.mp hv]; exact trivial) (Nat.le_of_ble_eq_true rfl) (Nat.le_of_ble_eq_true rfl) rfl rfl hl.1 (by decide) dX0_image_1 (Nat.zero_le _) (Nat.zero_le _) ?_
  clear hP hD hS
  intro H locs hP hD hS
  have hP : va_P G.2.1 am_cl (am_ws G M) H := hP
  have hD : va_D (am_A G) (am_ws G M) := hD
  have eE : fX0_isEnd a = fX2_in a 0 1 := isEnd_in a
  refine lv_if_ne (tgt := 10) (x := fX0_isEnd a) hx hb dX0_image_4 rfl (fun hne => ?_) (fun heq => ?_)
  · rw [eE] at hne
    obtain ⟨n, hn, rfl⟩ := in_n (n := 1) (by omega) hne
    have hn2 : n < 2 := by omega
    refine img_ld (G := G) (M := M) hn2 cx hK hP h0 hl dX0_image_10 dX0_image_11 dX0_image_14 dX0_image_15 ?_
    rcases Bool.eq_false_or_eq_true (G.2.2.2.1 (n + 4)) with hT | hF
    · rw [show va_rf (imf G n) = .ref (G.2.2.1 (n + 4) 0) by unfold imf; rw [if_pos hT]; rfl]
      refine lv_ifnonnull (tgt := 32) hx hb dX0_image_16 rfl ?_
      refine img_tail (G := G) (M := M) hn2 cx hK hP hD hS h0 hT hl (Nat.le_of_ble_eq_true rfl) (Nat.le_of_ble_eq_true rfl) (Nat.zero_le _) (Nat.zero_le _) ?_
      intro H1 locs1 hP1 hD1 hS1
      refine lv_iconst hx hb dX0_image_45 ic_1 ?_
      refine W.widen (k := 13) (n := 121) (Nat.zero_le _) (Nat.zero_le _) ?_
      refine W.iret hx hb hr (fun t ht hW => ⟨⟨1, (G.2.2.1, G.2.2.2.1, va_up M (n + 4) (tkR (M 2) (M (n + 4)))), rfl, ⟨fun _ _ => rfl, fun _ _ => rfl, Or.inr ⟨n, hn2, rfl, rfl, fun _ _ => rfl, hT, fun o ho => sm_ne ho, M (n + 4), sm_at⟩⟩, by rw [ht]; exact hP1, hD1, am_Kn_warm hW hK⟩, hS1.F ht⟩) hS1.2.2 dX0_image_46
    · rw [show va_rf (imf G n) = .null by unfold imf; rw [if_neg (by rw [hF]; decide)]; rfl]
      refine lv_ifnonnullN hx hb dX0_image_16 ?_
      refine lv_aload_n hx hb dX0_image_19 rfl (lv_at hl 0 rfl) ?_
      refine raw_get cx hK hP (j := 0) (k := 2) lf_X0_45 h0 (v := .ref (G.2.2.1 0 3)) rfl dX0_image_20 ?_
      refine lv_iload_n hx hb dX0_image_23 rfl (lv_at hl 1 rfl) ?_
      obtain ⟨l, D, ad, L, ac, z⟩ := G
      refine raw_mine (D := D) (ac := ac) (A := fun x => z ≤ x) cx rfl (KN_of hK) hS hA hl.1 (Nat.le_of_ble_eq_true rfl) (Nat.le_of_ble_eq_true rfl) (Nat.le_of_ble_eq_true rfl) (Nat.le_of_ble_eq_true rfl) (Nat.le_of_ble_eq_true rfl) dX0_image_24 dX0_image_27 dX0_image_28 ?_
      intro ad1 H1 locs1 ha1 hP1 hD1 hz1 hk1 hS1
      have hPo : va_P D am_cl (am_ws (l, D, ad, L, ac, z) M) H1 := P_of (fun y hy => (P_mem hP hy).kept (hk1 _ (P_mem hP hy).lt))
      have hPa := hPo.app hP1
      have hDa : va_D (fun x => z ≤ x) (am_ws (l, D, ad, L, ac, z) M ++ am_ws (l, D, ad1, oL 2, ac, H.size) mineM) := D_app hD (D_mono hD1 (fun x hx => hA x (Nat.le_trans hS.1 hx))) (fun y hy w hw => by
        have h1 := (P_mem hP hy).lt
        have h2 : H.size ≤ w.1 := D_A hD1 hw
        omega)
      obtain ⟨q0, hq0⟩ := am_place (L023 hK h0).2
      have hq0 : (am_ids L)[q0]? = some (0, 3) := hq0
      have he := am_ws_at (G := (l, D, ad, L, ac, z)) (M := M) hq0
      rw [ae_img] at he
      have hlen' : q0 < (am_ws (l, D, ad, L, ac, z) M).length := (List.getElem?_eq_some_iff.mp he).1
      have he2 : (am_ws (l, D, ad, L, ac, z) M ++ am_ws (l, D, ad1, oL 2, ac, H.size) mineM)[q0]? = some (ad 0 3, .inl (ac 3, 2, .inr (.inr (.inr (.inr (imf (l, D, ad, L, ac, z))))))) := by
        rw [List.getElem?_append_left hlen']; exact he
      have hv : (am_ws (l, D, ad, L, ac, z) M ++ am_ws (l, D, ad1, oL 2, ac, H.size) mineM)[(am_ws (l, D, ad, L, ac, z) M).length]? = some (H.size, .inr (1, am_fs ad1 mineM 2)) := by
        rw [List.getElem?_append_right (Nat.le_refl _), Nat.sub_self, ← ha1]
        rfl
      refine va_astq (D := D) (cl := am_cl) (tys := am_tys (l, D, ad, L, ac, z)) (A := fun x => z ≤ x) (r := (RX1, TX1, 17)) hx hb hK.1 hPa hDa hS1 q0 3 _ 1 he2 rfl hv rfl (nI_in hn2 (by omega)) dX0_image_31 ?_
      intro H2 locs2 hP2 hD2 hS2
      rw [nI_clamp (by omega)] at hP2 hD2
      obtain ⟨hP3, hD3⟩ := img_new hn2 hF ha1 hq0 hP2 hD2
      have hK3 : am_Kn (l, D, va_up ad (n + 4) (ad1 2), va_up L (n + 4) true, ac, z) s := KN_to (KN_of hK) (fun z0 => by
        have z1 : va_up L (n + 4) true 0 = L 0 := by
          have : ¬ 0 = n + 4 := by omega
          simp [va_up, this]
        have z2 : va_up L (n + 4) true 2 = L 2 := by
          have : ¬ 2 = n + 4 := by omega
          simp [va_up, this]
        have z3 : va_up L (n + 4) true 3 = L 3 := by
          have : ¬ 3 = n + 4 := by omega
          simp [va_up, this]
        rw [z2, z3]
        rw [z1] at z0
        exact hK.2.2.2 z0)
      have e0 : va_up ad (n + 4) (ad1 2) 0 = ad 0 := by
        have : ¬ 0 = n + 4 := by omega
        simp [va_up, this]
      have h03 : (0, 0) ∈ am_ids (va_up L (n + 4) true) := am_ids_of (by
        have : ¬ 0 = n + 4 := by omega
        simpa [va_up, this] using (am_ids_obj h0).1) (by decide) List.mem_cons_self
      have hT3 : va_up L (n + 4) true (n + 4) = true := by simp [va_up]
      refine img_tail (G := (l, D, va_up ad (n + 4) (ad1 2), va_up L (n + 4) true, ac, z)) (M := va_up M (n + 4) (mineM 2)) hn2 cx hK3 hP3 hD3 hS2 h03 hT3 (by show lv_has ls 2 [(0, .ref (va_up ad (n + 4) (ad1 2) 0 0)), (1, .int (nI n))]; rw [e0]; exact hl) (Nat.le_of_ble_eq_true rfl) (Nat.le_of_ble_eq_true rfl) (Nat.le_of_ble_eq_true rfl) (Nat.le_of_ble_eq_true rfl) ?_
      intro H4 locs4 hP4 hD4 hS4
      refine lv_iconst hx hb dX0_image_45 ic_1 ?_
      refine W.cs (cells' := 13) (slots' := 121) rfl rfl ?_
      have n2 : ¬ 2 = n + 4 := by omega
      refine W.iret hx hb hr (fun t ht hW => ⟨⟨1, (va_up ad (n + 4) (ad1 2), va_up L (n + 4) true, va_up (va_up M (n + 4) (mineM 2)) (n + 4) (tkR (va_up M (n + 4) (mineM 2) 2) (va_up M (n + 4) (mineM 2) (n + 4)))), rfl, ⟨fun j hj => ?_, fun j hj => ?_, Or.inr ⟨n, hn2, rfl, rfl, fun i hi => by simp [va_up, hi], hT3, fun o ho => (sm_ne ho).trans (sm_ne ho), mineM 2, by show va_up _ (n + 4) _ (n + 4) = _; rw [sm_at, sm_at, sm_ne n2]⟩⟩, by rw [ht]; exact hP4, hD4, am_Kn_warm hW hK3⟩, hS4.F ht⟩) hS4.2.2 dX0_image_46
      · have : ¬ j = n + 4 := by omega
        simp [va_up, this]
      · have : ¬ j = n + 4 := by omega
        simp [va_up, this]
  · rw [eE] at heq
    refine lv_bipush hx hb dX0_image_7 bp_m2 ?_
    refine W.widen (k := 13) (n := 121) (Nat.zero_le _) (Nat.zero_le _) ?_
    refine W.iret hx hb hr (fun t ht hW => ⟨⟨-2, (G.2.2.1, G.2.2.2.1, M), rfl, ⟨fun _ _ => rfl, fun _ _ => rfl, Or.inl ⟨heq, rfl, rfl, rfl⟩⟩, by rw [ht]; exact hP, hD, am_Kn_warm hW hK⟩, hS.F ht⟩) hS.2.2 dX0_image_9
