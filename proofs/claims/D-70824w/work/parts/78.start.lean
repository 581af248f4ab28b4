/-! THE LAW'S START: the world of both, and what ties them at first -/
set_option maxRecDepth 100000
def lawL : Nat → Bool := L6 true true true true false false
def lawM : am_M := va_up sysM 1 (modM 1)
theorem lawL_s : ∀ j : Fin 6, ¬ j.val = 1 → lawL j.val = sL j.val := by decide
theorem oL_1 {c : Nat × Nat} (h : c ∈ am_ids (oL 1)) : c.1 = 1 := by
  obtain ⟨h1, -, -⟩ := am_ids_obj (j := c.1) (k := c.2) h
  simpa [oL] using h1
theorem law_world {l : Launch} {D : va_G} {ad0 ad1 : Nat → Nat → Nat} {ac : Nat → ClassId} {a0 a1 z : Nat} {H : Heap} (hP0 : va_P D am_cl (am_ws (l, D, ad0, sL, ac, a0) sysM) H) (hD0 : va_D (fun x => a0 ≤ x) (am_ws (l, D, ad0, sL, ac, a0) sysM)) (hP1 : va_P D am_cl (am_ws (l, D, ad1, oL 1, ac, a1) modM) H) (hD1 : va_D (fun x => a1 ≤ x) (am_ws (l, D, ad1, oL 1, ac, a1) modM)) (hlt : ∀ c ∈ am_ids sL, ad0 c.1 c.2 < a1) (hz0 : z ≤ a0) (hz1 : z ≤ a1) :
    va_P D am_cl (am_ws (l, D, va_up ad0 1 (ad1 1), lawL, ac, z) lawM) H ∧ va_D (fun x => z ≤ x) (am_ws (l, D, va_up ad0 1 (ad1 1), lawL, ac, z) lawM) := by
  have split : ∀ c ∈ am_ids lawL, (c.1 = 1 ∧ c ∈ am_ids (oL 1)) ∨ (¬ c.1 = 1 ∧ c ∈ am_ids sL) := by
    intro c hc
    obtain ⟨j, k⟩ := c
    obtain ⟨h1, h2, h3⟩ := am_ids_obj hc
    by_cases hj : j = 1
    · subst hj
      exact Or.inl ⟨rfl, am_ids_of rfl (by decide) h3⟩
    · refine Or.inr ⟨hj, am_ids_of ?_ h2 h3⟩
      rw [← lawL_s ⟨j, h2⟩ hj]
      exact h1
  have adn : ∀ j, ¬ j = 1 → va_up ad0 1 (ad1 1) j = ad0 j := fun j hj => by simp [va_up, hj]
  refine am_mk (G := (l, D, va_up ad0 1 (ad1 1), lawL, ac, z)) (fun c hc => ?_) (fun c hc c' hc' e => ?_) (fun c hc => ?_)
  · obtain ⟨j, k⟩ := c
    rcases split (j, k) hc with ⟨h1, h2⟩ | ⟨h1, h2⟩
    · have h1 : j = 1 := h1
      subst h1
      have := am_at hP1 h2
      rw [ce_cg (G := (l, D, ad1, oL 1, ac, a1)) (G' := (l, D, va_up ad0 1 (ad1 1), lawL, ac, z)) (M := modM) (M' := lawM) (j := 1) (j' := 1) (ids_k24 h2) rfl rfl (fun _ => rfl) rfl (fun q => by cases q) (fun q => by cases q)]
      exact this
    · have h1 : ¬ j = 1 := h1
      have := am_at hP0 h2
      show va_at D am_cl (va_up ad0 1 (ad1 1) j k, _) H
      rw [adn j h1, ce_cg (G := (l, D, ad0, sL, ac, a0)) (G' := (l, D, va_up ad0 1 (ad1 1), lawL, ac, z)) (M := sysM) (M' := lawM) (j := j) (j' := j) (ids_k24 h2) rfl rfl (fun k => by show va_up ad0 1 (ad1 1) j k = ad0 j k; rw [adn j h1]) (by unfold lawM; exact sm_ne h1) (fun _ i hi => by
        have : ¬ i = 1 := by omega
        show va_up ad0 1 (ad1 1) i 0 = ad0 i 0
        rw [adn i this]) (fun _ n => ⟨by
          match n with
          | 0 => rfl
          | 1 => rfl
          | n + 2 => rfl, fun _ => by
          have : ¬ n + 4 = 1 := by omega
          show va_up ad0 1 (ad1 1) (n + 4) 0 = ad0 (n + 4) 0
          rw [adn _ this]⟩)]
      exact this
  · obtain ⟨j, k⟩ := c
    obtain ⟨j', k'⟩ := c'
    have e : va_up ad0 1 (ad1 1) j k = va_up ad0 1 (ad1 1) j' k' := e
    rcases split (j, k) hc with ⟨h1, h2⟩ | ⟨h1, h2⟩
    · have h1 : j = 1 := h1
      subst h1
      have b1 : a1 ≤ ad1 1 k := am_aA hD1 h2
      rcases split (j', k') hc' with ⟨g1, g2⟩ | ⟨g1, g2⟩
      · have g1 : j' = 1 := g1
        subst g1
        exact am_ij hD1 h2 g2 e
      · have b2 := hlt _ g2
        rw [adn j' g1] at e
        have e : ad1 1 k = ad0 j' k' := e
        dsimp only at b2
        omega
    · have b1 := hlt _ h2
      rw [adn j h1] at e
      rcases split (j', k') hc' with ⟨g1, g2⟩ | ⟨g1, g2⟩
      · have g1 : j' = 1 := g1
        subst g1
        have b2 : a1 ≤ ad1 1 k' := am_aA hD1 g2
        have e : ad0 j k = ad1 1 k' := e
        dsimp only at b1
        omega
      · rw [adn j' g1] at e
        exact am_ij hD0 h2 g2 e
  · obtain ⟨j, k⟩ := c
    show z ≤ va_up ad0 1 (ad1 1) j k
    rcases split (j, k) hc with ⟨h1, h2⟩ | ⟨h1, h2⟩
    · have h1 : j = 1 := h1
      subst h1
      have b1 : a1 ≤ ad1 1 k := am_aA hD1 h2
      exact Nat.le_trans hz1 b1
    · rw [adn j h1]
      have b1 : a0 ≤ ad0 j k := am_aA hD0 h2
      exact Nat.le_trans hz0 b1
theorem mine_0 : ∀ k : Fin 17, ¬ k.val = 1 → ¬ k.val = 11 → ∀ i : Fin 16, mineM 2 k.val i.val = 0 := by decide +kernel
theorem mine_1 : ∀ i : Fin 10, mineM 2 1 i.val = nI i.val := by decide +kernel
theorem mine_11 : ∀ i : Fin 8, mineM 2 11 i.val = -6 := by decide +kernel
theorem hb_00 (k : Nat) (hk : k < 31) : hb 0 (nI k) = false := by
  have := hb_bit (s := 0) (k := k) (by omega) hk
  rw [show (0 : Int32) = nI 0 from rfl, this]
  exact Nat.zero_testBit k
theorem wf_mine : wf (mineM 2) := by
  have z : ∀ k i, k < 17 → i < 16 → ¬ k = 1 → ¬ k = 11 → mineM 2 k i = nI 0 := fun k i hk hi h1 h2 => mine_0 ⟨k, hk⟩ h1 h2 ⟨i, hi⟩
  refine ⟨fun g hg => ⟨0, by omega, z 0 g (by omega) (by omega) (by omega) (by omega)⟩, fun a b ha hb => ?_, fun g hg => ⟨g, hg, mine_1 ⟨g, hg⟩⟩, ⟨0, by omega, z 3 0 (by omega) (by omega) (by omega) (by omega)⟩, ⟨0, by omega, z 4 0 (by omega) (by omega) (by omega) (by omega)⟩, ⟨0, by omega, z 5 0 (by omega) (by omega) (by omega) (by omega)⟩, fun k hk => ⟨0, 0, by omega, by omega, z 8 k (by omega) (by omega) (by omega) (by omega), z 9 k (by omega) (by omega) (by omega) (by omega), Or.inl (mine_11 ⟨k, hk⟩)⟩, fun k hk => ⟨0, by omega, z 10 k (by omega) (by omega) (by omega) (by omega)⟩, ⟨0, by omega, z 12 0 (by omega) (by omega) (by omega) (by omega)⟩, fun e he => ⟨0, by omega, z 13 e (by omega) (by omega) (by omega) (by omega)⟩, fun e he => Or.inr ⟨0, by omega, z 14 e (by omega) (by omega) (by omega) (by omega)⟩, ⟨0, by omega, z 15 0 (by omega) (by omega) (by omega) (by omega)⟩⟩
  rw [z 0 a (by omega) (by omega) (by omega) (by omega), z 0 b (by omega) (by omega) (by omega) (by omega)]
  exact (hb_00 b (by omega)).trans (hb_00 a (by omega)).symm
theorem rel_0 : rel (mineM 2) (modM 1) := by
  have r1 : ∀ k : Fin 8, modM 1 0 (8 + k.val) = mineM 2 9 k.val ∧ modM 1 0 (16 + k.val) = mineM 2 10 k.val ∧ modM 1 3 k.val = mineM 2 6 k.val ∧ modM 1 4 k.val = mineM 2 7 k.val ∧ modM 1 5 k.val = mineM 2 8 k.val ∧ modM 1 0 k.val = mineM 2 11 k.val := by decide +kernel
  have r2 : ∀ g : Fin 10, modM 1 0 (24 + g.val) = mineM 2 2 g.val ∧ modM 1 6 g.val = mineM 2 0 g.val ∧ modM 1 7 g.val = mineM 2 1 g.val := by decide +kernel
  have r3 : modM 1 0 34 = mineM 2 4 0 ∧ modM 1 0 35 = mineM 2 12 0 ∧ modM 1 2 0 = mineM 2 5 0 ∧ modM 1 8 0 = mineM 2 3 0 ∧ modM 1 9 0 = mineM 2 15 0 := by decide +kernel
  have r4 : ∀ e : Fin 8, modM 1 10 (2 * e.val) = mineM 2 13 e.val ∧ modM 1 10 (2 * e.val + 1) = mineM 2 14 e.val := by decide +kernel
  refine ⟨fun k hk => ?_, fun g hg => r2 ⟨g, hg⟩, r3.1, r3.2.1, r3.2.2.1, r3.2.2.2.1, r3.2.2.2.2, fun e he => r4 ⟨e, he⟩⟩
  obtain ⟨a1, a2, a3, a4, a5, a6⟩ := r1 ⟨k, hk⟩
  exact ⟨a1, a2, a3, a4, a5, fun _ => a6⟩
theorem Inv_0 : Inv lawL lawM := by
  refine ⟨wf_mine, rel_0, ⟨0, by omega, rfl, rfl, fun i _ => rfl, fun i hi => absurd hi (by omega)⟩, fun n hn => ?_⟩
  rcases (show n = 0 ∨ n = 1 by omega) with rfl | rfl
  · exact ⟨fun h => (by cases h), fun _ => rfl⟩
  · exact ⟨fun h => (by cases h), fun _ => rfl⟩
