/-! OPERATION: losts -/
set_option maxRecDepth 100000
/-- what is heard in a gallery, of a lost one -/
def hv (m : Nat → Nat → Int32) (g c : Nat) : Int32 := if fm m g (c / 100) ≤ c % 100 ∧ fm m g (c / 100) < 10 then nI (c % 100 - fm m g (c / 100)) else -1
theorem mx_pos {k : Nat} (h : k < 100) : jv_max (-1) (nI k) = nI k ∧ (0 : Int32) ≤ nI k := by
  have : ∀ k : Fin 100, jv_max (-1) (nI k.1) = nI k.1 ∧ (0 : Int32) ≤ nI k.1 := by decide
  exact this ⟨k, h⟩
theorem mx_neg {a b : Nat} (h : a < b) (hb : b < 10) : jv_max (-1) (nI a - nI b) = -1 ∧ ¬ (0 : Int32) ≤ nI a - nI b := by
  have : ∀ a b : Fin 10, a.1 < b.1 → jv_max (-1) (nI a.1 - nI b.1) = -1 ∧ ¬ (0 : Int32) ≤ nI a.1 - nI b.1 := by decide
  exact this ⟨a, by omega⟩ ⟨b, hb⟩ h
theorem c_div {c : Nat} (hc : c < 1000) : nI c / 100 = nI (c / 100) ∧ jv_rem (nI c) 100 = nI (c % 100) := ⟨pk_div (a := c) (d := 100) (by omega) (by omega) (by omega), pk_rem (a := c) (d := 100) (by omega) (by omega) (by omega)⟩
theorem heard_eq {M : am_M} {m : Nat → Nat → Int32} (h16 : ∀ z, z < 100 → M 0 16 z = frI (fm m (z / 10) (z % 10))) {g c : Nat} (hg : g < 10) (hc : c < 1000) : fX0_heardIn M (nI g) (nI c) = some (hv m g c) := by
  have e : (10 : Int32) * nI g + nI (c / 100) = nI (10 * g + c / 100) := by
    rw [show (10 : Int32) = nI 10 from rfl, pk_mul, nI_add]
  unfold fX0_heardIn hv
  rw [(c_div hc).1, (c_div hc).2, e, rd_n (show 10 * g + c / 100 < 100 by omega) (by omega), Option.bind_some, h16 _ (by omega), show (10 * g + c / 100) / 10 = g by omega, show (10 * g + c / 100) % 10 = c / 100 by omega]
  have hle : fm m g (c / 100) ≤ 10 := fd_le _ _ _ _
  simp only [frI_neg hle]
  by_cases c1 : fm m g (c / 100) < 10
  · rw [if_pos c1, show frI (fm m g (c / 100)) = nI (fm m g (c / 100)) from if_pos c1]
    by_cases c2 : fm m g (c / 100) ≤ c % 100
    · rw [if_pos ⟨c2, c1⟩, pk_sub c2, (mx_pos (by omega)).1]
    · rw [if_neg (fun q => c2 q.1), (mx_neg (by omega) c1).1]
  · rw [if_neg c1, if_neg (fun q => c1 q.2)]
theorem note_eq {u m : Nat → Nat → Int32} (hw : wf m) (h20 : ∀ z, z < 100 → u 20 z = nI (fmN m (z / 10) (z % 10))) {g c : Nat} (hg : g < 10) (hc : c < 1000) : fX2_noteIn u (nI c) (nI g) = some (hv m g c) := by
  have e : nI (c / 100) * (10 : Int32) + nI g = nI (c / 100 * 10 + g) := by
    rw [show (10 : Int32) = nI 10 from rfl, pk_mul, nI_add]
  unfold fX2_noteIn hv
  rw [(c_div hc).1, (c_div hc).2, e, rd_n (show c / 100 * 10 + g < 100 by omega) (by omega), Option.bind_some, h20 _ (by omega), show (c / 100 * 10 + g) / 10 = c / 100 by omega, show (c / 100 * 10 + g) % 10 = g by omega]
  unfold fmN
  rw [fm_sym hw (show c / 100 < 10 by omega) hg]
  by_cases c1 : fm m g (c / 100) < 10
  · rw [if_pos c1]
    by_cases c2 : fm m g (c / 100) ≤ c % 100
    · rw [pk_sub c2, if_pos (mx_pos (k := c % 100 - fm m g (c / 100)) (by omega)).2, if_pos ⟨c2, c1⟩]
    · rw [if_neg (mx_neg (a := c % 100) (by omega) c1).2, if_neg (fun q => c2 q.1)]
  · rw [if_neg c1, if_neg (Int32.not_le.mpr (pk_sneg (a := c % 100) (b := 1000000) (by omega) (by omega))), if_neg (fun q => c1 q.2)]
def sN (m : Nat → Nat → Int32) : Nat := (m 15 0).toNatClampNeg
def sG (m : Nat → Nat → Int32) (e : Nat) : Nat := (m 13 e).toNatClampNeg
theorem sN_ok {m : Nat → Nat → Int32} (hw : wf m) : sN m ≤ 8 ∧ m 15 0 = nI (sN m) := by
  obtain ⟨s, hs, e⟩ := hw.2.2.2.2.2.2.2.2.2.2.2
  unfold sN
  rw [e, nI_clamp (by omega)]
  exact ⟨hs, rfl⟩
theorem sG_ok {m : Nat → Nat → Int32} (hw : wf m) {e : Nat} (he : e < 8) : sG m e < 10 ∧ m 13 e = nI (sG m e) := by
  obtain ⟨s, hs, q⟩ := hw.2.2.2.2.2.2.2.2.2.1 e he
  unfold sG
  rw [q, nI_clamp (by omega)]
  exact ⟨hs, rfl⟩
def lostP (m : Nat → Nat → Int32) (c : Nat) : Bool := decide (c % 100 < 24) && !(List.range (sN m)).any fun e => !decide (hv m (sG m e) c = m 14 e)
theorem note24 {c : Nat} : fX2_in (nI (c % 100)) 0 23 = b1 (decide (c % 100 < 24)) := by
  have : ∀ k : Fin 100, fX2_in (nI k.1) 0 23 = b1 (decide (k.1 < 24)) := by decide
  exact this ⟨c % 100, Nat.mod_lt _ (by omega)⟩
theorem canBe_eq {M : am_M} (hw : wf (M 2)) (h16 : ∀ z, z < 100 → M 0 16 z = frI (fm (M 2) (z / 10) (z % 10))) {c : Nat} (hc : c < 1000) : fX0_canBe M (nI c) = some (b1 (lostP (M 2) c)) := by
  obtain ⟨s8, es⟩ := sN_ok hw
  unfold fX0_canBe lostP
  rw [(c_div hc).2, isNot_in, note24, ite_b1]
  by_cases c1 : c % 100 < 24
  · rw [decide_eq_true c1, if_pos rfl, Bool.true_and]
    have step : ∀ e, e < sN (M 2) → ∀ rec, fX0_canBe_L14 M (nI c) rec (nI e) = if (!decide (hv (M 2) (sG (M 2) e) c = M 2 14 e)) = true then some (.inl 0) else rec (nI (e + 1)) := by
      intro e he rec
      obtain ⟨g10, eg⟩ := sG_ok hw (show e < 8 by omega)
      unfold fX0_canBe_L14
      rw [es, if_neg (nI_ge he (by omega)), rd8 (show e < 8 by omega), Option.bind_some, eg, heard_eq h16 g10 hc, Option.bind_some, rd8 (show e < 8 by omega), Option.bind_some, nI_add1]
      by_cases q : hv (M 2) (sG (M 2) e) c = M 2 14 e
      · rw [if_pos q]; simp [q]
      · rw [if_neg q]; simp [q]
    rcases first_of (fun e => !decide (hv (M 2) (sG (M 2) e) c = M 2 14 e)) (sN (M 2)) with ⟨e, hl⟩ | ⟨t, ht, hh, hl, e⟩
    · rw [e, it_n (res := .inr (nI (sN (M 2)))) (sN (M 2)) (by omega) (fun i hi rec => by rw [step i hi, hl i hi]; rfl) (fun rec => by unfold fX0_canBe_L14; rw [es, if_pos (Int32.le_refl _)])]
      rfl
    · rw [e, it_n (res := .inl 0) t (by omega) (fun i hi rec => by rw [step i (by omega), hl i hi]; rfl) (fun rec => by rw [step t ht, hh]; rfl)]
      rfl
  · rw [decide_eq_false c1, if_neg (by decide), Bool.false_and]
    rfl
theorem isLost_eq {u m : Nat → Nat → Int32} (hw : wf m) (h20 : ∀ z, z < 100 → u 20 z = nI (fmN m (z / 10) (z % 10))) (h9 : u 9 0 = m 15 0) (h10 : ∀ e, e < 8 → u 10 (2 * e) = m 13 e ∧ u 10 (2 * e + 1) = m 14 e) {c : Nat} (hc : c < 1000) : fX2_isLost u (nI c) = some (b1 (lostP m c)) := by
  obtain ⟨s8, es⟩ := sN_ok hw
  unfold fX2_isLost lostP
  rw [(c_div hc).2]
  have e0 : (if (24 : Int32) ≤ nI (c % 100) then some (0 : Int32) else some 1) = some (b1 (decide (c % 100 < 24))) := by
    have : ∀ k : Fin 100, (if (24 : Int32) ≤ nI k.1 then some (0 : Int32) else some 1) = some (b1 (decide (k.1 < 24))) := by decide
    exact this ⟨c % 100, Nat.mod_lt _ (by omega)⟩
  rw [e0, Option.bind_some]
  have hh : ∃ y, am_it (fX2_isLost_L17 u (nI c)) am_fuel (b1 (decide (c % 100 < 24)), (0 : Int32)) = some (b1 (decide (c % 100 < 24) && !(List.range (sN m)).any fun i => !decide (hv m (sG m i) c = m 14 i)), y) := by
    refine can_loop (F := fX2_isLost_L17 u (nI c)) (sN m) (fun e => decide (hv m (sG m e) c = m 14 e)) (by omega) (fun e he rec => ?_) (fun i hi rec => ?_) (fun rec => ?_) (decide (c % 100 < 24))
    · obtain ⟨g10, eg⟩ := sG_ok hw (show e < 8 by omega)
      obtain ⟨k1, k2⟩ := h10 e (by omega)
      have i1 : (2 : Int32) * nI e = nI (2 * e) := pk_mul 2 e
      unfold fX2_isLost_L17
      simp only [h9, es, if_neg (nI_ge he (show sN m < 2 ^ 31 by omega)), ite_b1, if_true, i1, nI_add1, rd_n (show 2 * e < 16 by omega) (show 16 < 2 ^ 31 by omega), rd_n (show 2 * e + 1 < 16 by omega) (show 16 < 2 ^ 31 by omega), Option.bind_some, k1, k2, eg, note_eq hw h20 g10 hc]
      by_cases q : hv m (sG m e) c = m 14 e
      · rw [if_pos q, Option.bind_some, decide_eq_true q]; rfl
      · rw [if_neg q, Option.bind_some, decide_eq_false q]; rfl
    · unfold fX2_isLost_L17
      simp only [ite_b1]
      split <;> simp
    · unfold fX2_isLost_L17
      simp only [h9, es]
      rw [if_pos (Int32.le_refl _)]
  obtain ⟨w, hw'⟩ := hh
  rw [hw', Option.bind_some]
  generalize (decide (c % 100 < 24) && !(List.range (sN m)).any fun i => !decide (hv m (sG m i) c = m 14 i)) = b
  cases b <;> rfl
/-! both loops -/
def mpM (M : am_M) : Int32 ⊕ (Int32 × Int32) → (Int32 × am_M) ⊕ (Int32 × Int32)
  | .inl v => .inl (v, M)
  | .inr s => .inr s
theorem losts_loop {M1 M2 : am_M} {P : Nat → Bool} (a : Int32) (h1 : ∀ c, c < 1000 → fX0_canBe M1 (nI c) = some (b1 (P c))) (h2 : ∀ c, c < 1000 → fX2_isLost (M2 1) (nI c) = some (b1 (P c))) : ∀ (k c : Nat) (n : Int32), c + k = 1000 → ∀ f, k < f → ∃ r, am_it (fX0_losts_L8 a M1) f (n, nI c) = some (mpM M1 r) ∧ am_it (fX2_losts_L8 a M2) f (n, nI c) = some (mpM M2 r) := by
  intro k
  induction k with
  | zero =>
    intro c n hc f hf
    obtain ⟨f, rfl⟩ : ∃ x, f = x + 1 := ⟨f - 1, by omega⟩
    have : c = 1000 := by omega
    subst this
    refine ⟨.inr (n, nI 1000), ?_, ?_⟩
    · show fX0_losts_L8 a M1 (am_it _ f) _ = _
      unfold fX0_losts_L8
      rw [if_pos (show (1000 : Int32) ≤ nI 1000 by decide)]
      rfl
    · show fX2_losts_L8 a M2 (am_it _ f) _ = _
      unfold fX2_losts_L8
      rw [if_pos (show (1000 : Int32) ≤ nI 1000 by decide)]
      rfl
  | succ k ih =>
    intro c n hc f hf
    obtain ⟨f, rfl⟩ : ∃ x, f = x + 1 := ⟨f - 1, by omega⟩
    have nl : ¬ (1000 : Int32) ≤ nI c := nI_ge (a := c) (b := 1000) (by omega) (by omega)
    have e1 : am_it (fX0_losts_L8 a M1) (f + 1) (n, nI c) = if P c = true then (if n = a then some (.inl (nI c, M1)) else am_it (fX0_losts_L8 a M1) f (n + 1, nI (c + 1))) else am_it (fX0_losts_L8 a M1) f (n, nI (c + 1)) := by
      show fX0_losts_L8 a M1 (am_it _ f) _ = _
      rw [fX0_losts_L8]
      simp only [if_neg nl, h1 c (by omega), Option.bind_some, ite_b1, nI_add1]
    have e2 : am_it (fX2_losts_L8 a M2) (f + 1) (n, nI c) = if P c = true then (if n = a then some (.inl (nI c, M2)) else am_it (fX2_losts_L8 a M2) f (n + 1, nI (c + 1))) else am_it (fX2_losts_L8 a M2) f (n, nI (c + 1)) := by
      show fX2_losts_L8 a M2 (am_it _ f) _ = _
      rw [fX2_losts_L8]
      simp only [if_neg nl, h2 c (by omega), Option.bind_some, ite_b1, nI_add1]
    rw [e1, e2]
    by_cases c1 : P c = true
    · simp only [if_pos c1]
      by_cases c2 : n = a
      · simp only [if_pos c2]
        exact ⟨.inl (nI c), rfl, rfl⟩
      · simp only [if_neg c2]
        exact ih (c + 1) (n + 1) (by omega) f (by omega)
    · simp only [if_neg c1]
      exact ih (c + 1) n (by omega) f (by omega)
theorem op_losts {L : Nat → Bool} {M : am_M} (h : Inv L M) (a : Int32) : opk L (fX0_losts M a) (fun M1 => fX2_losts M1 a) := by
  have h0 := h
  obtain ⟨hw, hr, -, -⟩ := h
  have f0 := findFar_eq hw
  generalize hM1 : va_up M 0 (va_up (M 0) 16 (ffA (M 2) (M 0 16) 100)) = M1 at f0
  have e2 : M1 2 = M 2 := by rw [← hM1]; exact sm_ne (by decide)
  have e1 : M1 1 = M 1 := by rw [← hM1]; exact sm_ne (by decide)
  have h16 : ∀ z, z < 100 → M1 0 16 z = frI (fm (M1 2) (z / 10) (z % 10)) := by
    intro z hz
    rw [e2, ← hM1, sm_at]
    show ffA (M 2) (M 0 16) 100 z = _
    unfold ffA
    rw [if_pos hz]
  have hI1 : Inv L M1 := by
    rw [← hM1]
    exact Inv_eqc h0 (eqc_0 rfl rfl)
  obtain ⟨u', q1, q2, q3⟩ := layApart_eq (m := M1 2) (N := M1) (u := M1 1) (by rw [e2]; exact hw) (by rw [e2, e1]; exact hr)
  rw [sm_id] at q1
  have hI2 : Inv L (va_up M1 1 u') := Inv_eqc hI1 ⟨sm_ne (by decide), sm_ne (by decide), sm_ne (by decide), by rw [sm_ne (by decide)], by rw [sm_ne (by decide)], fun k h1 h2 => by rw [sm_at]; exact q2 k (by omega) (by omega), by rw [sm_at]; exact q2 22 (by omega) (by omega), by rw [sm_at]; exact q2 23 (by omega) (by omega)⟩
  have hw1 : wf (M1 2) := by rw [e2]; exact hw
  have hr1 : rel (M1 2) (M1 1) := by rw [e2, e1]; exact hr
  obtain ⟨r, r1, r2⟩ := losts_loop (M1 := M1) (M2 := va_up M1 1 u') (P := lostP (M1 2)) a (fun c hc => canBe_eq hw1 h16 hc) (fun c hc => by
    rw [sm_at]
    exact isLost_eq hw1 q3 (by rw [q2 9 (by omega) (by omega)]; exact hr1.2.2.2.2.2.2.1) (fun e he => by rw [q2 10 (by omega) (by omega)]; exact hr1.2.2.2.2.2.2.2 e he) hc) 1000 0 0 (by omega) am_fuel (by show 1000 < 100001; omega)
  have k0 : fX0_losts M a = Option.bind (some (mpM M1 r)) (Sum.elim some fun s6 => if a = (-1 : Int32) then some (s6.1, M1) else some ((-6 : Int32), M1)) := by
    unfold fX0_losts
    rw [f0, Option.bind_some, show am_it (fX0_losts_L8 a M1) am_fuel ((0 : Int32), (0 : Int32)) = _ from r1]
  have k2 : fX2_losts M1 a = Option.bind (some (mpM (va_up M1 1 u') r)) (Sum.elim some fun s6 => if a = (-1 : Int32) then some (s6.1, va_up M1 1 u') else some ((-6 : Int32), va_up M1 1 u')) := by
    unfold fX2_losts
    rw [q1, Option.bind_some, show am_it (fX2_losts_L8 a (va_up M1 1 u')) am_fuel ((0 : Int32), (0 : Int32)) = _ from r2]
  unfold opk
  simp only [k0]
  cases r with
  | inl v => exact ⟨v, M1, va_up M1 1 u', rfl, k2, hI2⟩
  | inr s =>
    by_cases c : a = -1
    · exact ⟨s.1, M1, va_up M1 1 u', by simp [mpM, c], by rw [k2]; simp [mpM, c], hI2⟩
    · exact ⟨-6, M1, va_up M1 1 u', by simp [mpM, c], by rw [k2]; simp [mpM, c], hI2⟩
