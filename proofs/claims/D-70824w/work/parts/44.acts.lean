/-! ACTS: one act, in both systems -/
set_option maxRecDepth 100000
/-- only scratch fields of the reference differ -/
def kpu (u u' : Nat → Nat → Int32) : Prop := ∀ f, f ≠ 1 → f ≠ 15 → u' f = u f
theorem kpu_rf (u : Nat → Nat → Int32) : kpu u u := fun _ _ _ => rfl
theorem kpu_1 {u : Nat → Nat → Int32} {A : Nat → Int32} : kpu u (va_up u 1 A) := fun f h _ => by simp [va_up, h]
def actk (t u : Nat → Nat → Int32) (a k v : Int32) (f2 : am_M → Option (Int32 × am_M)) : Prop := ∃ w, fX1_whyNot t a k v = some w ∧
  ((w = 0 ∧ ∃ t' u', (∀ M, fX1_happen (va_up M 3 t) 1 a k v = some (va_up M 3 t')) ∧ (∀ M, f2 (va_up M 1 u) = some (0, va_up M 1 u')) ∧ wf t' ∧ rel t' (nowv u') ∧ kpu u u') ∨ (0 < w ∧ ∀ M, f2 (va_up M 1 u) = some (w, va_up M 1 u)))
theorem rel_set {t u : Nat → Nat → Int32} (h : rel t (nowv u)) {f i x : Nat} {v : Int32} (hx : x < 36)
    (h1 : ∀ k, k < 8 → (8 + k = x ↔ (f = 9 ∧ k = i)) ∧ (16 + k = x ↔ (f = 10 ∧ k = i)) ∧ (k = x ↔ (f = 11 ∧ k = i))) (h2 : ∀ g, g < 10 → (24 + g = x ↔ (f = 2 ∧ g = i))) (h3 : 34 = x ↔ (f = 4 ∧ 0 = i)) (h4 : 35 = x ↔ (f = 12 ∧ 0 = i)) (hf : f = 9 ∨ f = 10 ∨ f = 11 ∨ f = 2 ∨ f = 4 ∨ f = 12) : rel (va_up t f (va_up (t f) i v)) (nowv (va_up u 1 (va_up (u 1) x v))) := by
  obtain ⟨r1, r2, r3, r4, r5, r6, r7, r8⟩ := h
  have e0 : ∀ y, nowv (va_up u 1 (va_up (u 1) x v)) 0 y = if y = x then v else u 1 y := fun y => rfl
  have em : ∀ b y, va_up t f (va_up (t f) i v) b y = if b = f ∧ y = i then v else t b y := by
    intro b y
    by_cases hb : b = f
    · subst hb
      by_cases hy : y = i <;> simp [va_up, hy]
    · simp [va_up, hb]
  have e5 : va_up t f (va_up (t f) i v) 5 0 = t 5 0 := by rw [em]; rw [if_neg]; rintro ⟨q, -⟩; omega
  refine ⟨fun k hk => ?_, fun g hg => ?_, ?_, ?_, ?_, ?_, ?_, fun e he => ?_⟩
  · obtain ⟨q1, q2, q3, q4, q5, q6⟩ := r1 k hk
    obtain ⟨c1, c2, c3⟩ := h1 k hk
    refine ⟨?_, ?_, ?_, ?_, ?_, fun hz => ?_⟩
    · rw [e0, em]
      by_cases z : 8 + k = x
      · rw [if_pos z, if_pos]; exact ⟨(c1.mp z).1.symm, (c1.mp z).2⟩
      · rw [if_neg z, if_neg]; · exact q1
        rintro ⟨a, b⟩; exact z (c1.mpr ⟨a.symm, b⟩)
    · rw [e0, em]
      by_cases z : 16 + k = x
      · rw [if_pos z, if_pos]; exact ⟨(c2.mp z).1.symm, (c2.mp z).2⟩
      · rw [if_neg z, if_neg]; · exact q2
        rintro ⟨a, b⟩; exact z (c2.mpr ⟨a.symm, b⟩)
    · rw [em, if_neg (by rintro ⟨a, -⟩; omega)]; exact q3
    · rw [em, if_neg (by rintro ⟨a, -⟩; omega)]; exact q4
    · rw [em, if_neg (by rintro ⟨a, -⟩; omega)]; exact q5
    · rw [e5] at hz
      rw [e0, em]
      by_cases z : k = x
      · rw [if_pos z, if_pos]; exact ⟨(c3.mp z).1.symm, (c3.mp z).2⟩
      · rw [if_neg z, if_neg]; · exact q6 hz
        rintro ⟨a, b⟩; exact z (c3.mpr ⟨a.symm, b⟩)
  · obtain ⟨q1, q2, q3⟩ := r2 g hg
    refine ⟨?_, ?_, ?_⟩
    · rw [e0, em]
      by_cases z : 24 + g = x
      · rw [if_pos z, if_pos]; exact ⟨((h2 g hg).mp z).1.symm, ((h2 g hg).mp z).2⟩
      · rw [if_neg z, if_neg]; · exact q1
        rintro ⟨a, b⟩; exact z ((h2 g hg).mpr ⟨a.symm, b⟩)
    · rw [em, if_neg (by rintro ⟨a, -⟩; omega)]; exact q2
    · rw [em, if_neg (by rintro ⟨a, -⟩; omega)]; exact q3
  · rw [e0, em]
    by_cases z : 34 = x
    · rw [if_pos z, if_pos]; exact ⟨(h3.mp z).1.symm, (h3.mp z).2⟩
    · rw [if_neg z, if_neg]; · exact r3
      rintro ⟨a, b⟩; exact z (h3.mpr ⟨a.symm, b⟩)
  · rw [e0, em]
    by_cases z : 35 = x
    · rw [if_pos z, if_pos]; exact ⟨(h4.mp z).1.symm, (h4.mp z).2⟩
    · rw [if_neg z, if_neg]; · exact r4
      rintro ⟨a, b⟩; exact z (h4.mpr ⟨a.symm, b⟩)
  · rw [e5]; exact r5
  · rw [em, if_neg (by rintro ⟨a, -⟩; omega)]; exact r6
  · rw [em, if_neg (by rintro ⟨a, -⟩; omega)]; exact r7
  · rw [em, em, if_neg (by rintro ⟨a, -⟩; omega), if_neg (by rintro ⟨a, -⟩; omega)]; exact r8 e he
theorem act_sing {t u : Nat → Nat → Int32} (hw : wf t) (h : rel t (nowv u)) {k n : Nat} (hk : k < 8) (hn : n < 24) : actk t u 0 (nI k) (nI n) (fun M => fX2_sing M (nI k) (nI n)) := by
  obtain ⟨q1, q2, q3, q4, q5, q6⟩ := rel_now h hk
  have h2 : u 2 0 = t 5 0 := rel_there h
  unfold actk fX1_whyNot
  rw [if_neg (by decide), if_neg (by decide), there_b1, ite_b1]
  have hM : ∀ M, fX2_sing (va_up M 1 u) (nI k) (nI n) = if hb (t 5 0) (nI k) = true then (if fX2_in (nI n) (t 6 k) (t 7 k) = 0 then some (2, va_up M 1 u) else if u 1 k = nI n then some (3, va_up M 1 u) else if t 9 k = 0 then some (4, va_up M 1 u) else some (0, va_up M 1 (va_up u 1 (va_up (u 1) k (nI n))))) else some (1, va_up M 1 u) := by
    intro M
    unfold fX2_sing
    simp only [sm_at, thereM_b1 hk, ite_b1, h2, rd8 hk, q3, q4, Option.bind_some, rd36 (show k < 36 by omega), show (8 : Int32) + nI k = nI (8 + k) from nI_add 8 k, rd36 (show 8 + k < 36 by omega), q1, wr36 (show k < 36 by omega), sm_up]
  simp only [hM]
  cases hz : hb (t 5 0) (nI k) with
  | false => exact ⟨1, by rw [if_neg (by simp)], Or.inr ⟨by decide, fun M => by rw [if_neg (by simp)]⟩⟩
  | true =>
    rw [if_pos rfl]
    have hn6 := q6 hz
    unfold fX1_whyNotSing
    simp only [rd8 hk, Option.bind_some, in_x_x, hn6, if_true]
    by_cases g1 : fX2_in (nI n) (t 6 k) (t 7 k) = 0
    · exact ⟨2, by rw [if_pos g1]; rfl, Or.inr ⟨by decide, fun M => by rw [if_pos g1]⟩⟩
    · rw [if_neg g1]
      by_cases g2 : t 11 k = nI n
      · exact ⟨3, by rw [if_pos g2]; rfl, Or.inr ⟨by decide, fun M => by rw [if_neg g1, if_pos g2]⟩⟩
      · rw [if_neg g2]
        by_cases g3 : t 9 k = 0
        · exact ⟨4, by rw [if_pos g3]; rfl, Or.inr ⟨by decide, fun M => by rw [if_neg g1, if_neg g2, if_pos g3]⟩⟩
        · rw [if_neg g3]
          refine ⟨0, rfl, Or.inl ⟨rfl, va_up t 11 (va_up (t 11) k (nI n)), va_up u 1 (va_up (u 1) k (nI n)), fun M => ?_, fun M => by rw [if_neg g1, if_neg g2, if_neg g3], ?_, ?_, kpu_1⟩⟩
          · unfold fX1_happen
            rw [if_pos rfl]
            show Option.bind (am_wr (va_up M 3 t) 3 11 8 (nI k) (nI n)) _ = _
            rw [wr8 hk, sm_up]
            rfl
          · obtain ⟨w0, w1, w2, w3, w4, w5, w6, w7, w8, w9, w10, w11⟩ := hw
            refine ⟨w0, w1, w2, w3, w4, w5, fun x hx => ?_, w7, w8, w9, w10, w11⟩
            obtain ⟨a, b, ha, hb', ea, eb, hnn⟩ := w6 x hx
            refine ⟨a, b, ha, hb', ea, eb, ?_⟩
            show va_up (t 11) k (nI n) x = _ ∨ _
            by_cases z : x = k
            · subst z
              right
              refine ⟨?_, n, hn, by show va_up (t 11) x (nI n) x = _; simp [va_up]⟩
              have : ¬ b = 0 := fun z => g3 (by rw [eb, z]; exact nI_0)
              omega
            · have e : va_up t 11 (va_up (t 11) k (nI n)) 11 x = t 11 x := by simp [va_up, z]
              rw [e]
              simpa [va_up, z] using hnn
          · exact rel_set h (by omega) (fun y hy => ⟨by omega, by omega, by omega⟩) (fun g hg => by omega) (by omega) (by omega) (by omega)
theorem act_stop {t u : Nat → Nat → Int32} (hw : wf t) (h : rel t (nowv u)) {k : Nat} (hk : k < 8) (v : Int32) : actk t u 1 (nI k) v (fun M => fX2_hush M (nI k)) := by
  obtain ⟨q1, q2, q3, q4, q5, q6⟩ := rel_now h hk
  have h2 : u 2 0 = t 5 0 := rel_there h
  unfold actk fX1_whyNot
  rw [if_neg (by decide), if_neg (by decide), there_b1, ite_b1]
  have hM : ∀ M, fX2_hush (va_up M 1 u) (nI k) = if hb (t 5 0) (nI k) = true then (if 0 ≤ u 1 k then some (0, va_up M 1 (va_up u 1 (va_up (u 1) k (-6)))) else some (3, va_up M 1 u)) else some (1, va_up M 1 u) := by
    intro M
    unfold fX2_hush
    simp only [sm_at, thereM_b1 hk, ite_b1, h2, Option.bind_some, rd36 (show k < 36 by omega), wr36 (show k < 36 by omega), sm_up]
  simp only [hM]
  cases hz : hb (t 5 0) (nI k) with
  | false => exact ⟨1, by rw [if_neg (by simp)], Or.inr ⟨by decide, fun M => by rw [if_neg (by simp)]⟩⟩
  | true =>
    rw [if_pos rfl, if_neg (by decide), if_neg (by decide)]
    have hn6 := q6 hz
    simp only [rd8 hk, Option.bind_some, hn6, if_true]
    by_cases g1 : 0 ≤ t 11 k
    · rw [if_pos g1]
      refine ⟨0, rfl, Or.inl ⟨rfl, va_up t 11 (va_up (t 11) k (-6)), va_up u 1 (va_up (u 1) k (-6)), fun M => ?_, fun M => by rw [if_pos g1], ?_, ?_, kpu_1⟩⟩
      · unfold fX1_happen
        rw [if_neg (by decide), if_pos rfl]
        show Option.bind (am_wr (va_up M 3 t) 3 11 8 (nI k) (-6)) _ = _
        rw [wr8 hk, sm_up]
        rfl
      · obtain ⟨w0, w1, w2, w3, w4, w5, w6, w7, w8, w9, w10, w11⟩ := hw
        refine ⟨w0, w1, w2, w3, w4, w5, fun x hx => ?_, w7, w8, w9, w10, w11⟩
        obtain ⟨a, b, ha, hb', ea, eb, hnn⟩ := w6 x hx
        refine ⟨a, b, ha, hb', ea, eb, ?_⟩
        by_cases z : x = k
        · left
          show va_up (t 11) k (-6) x = _
          simp [va_up, z]
        · have e : va_up t 11 (va_up (t 11) k (-6)) 11 x = t 11 x := by simp [va_up, z]
          rw [e]; exact hnn
      · exact rel_set h (by omega) (fun y hy => ⟨by omega, by omega, by omega⟩) (fun g hg => by omega) (by omega) (by omega) (by omega)
    · rw [if_neg g1]
      exact ⟨3, rfl, Or.inr ⟨by decide, fun M => by rw [if_neg g1]⟩⟩
theorem act_go {t u : Nat → Nat → Int32} (hw : wf t) (h : rel t (nowv u)) {k g : Nat} (hk : k < 8) (hg : g < 10) : actk t u 2 (nI k) (nI g) (fun M => fX2_go M (nI k) (nI g)) := by
  obtain ⟨q1, q2, q3, q4, q5, q6⟩ := rel_now h hk
  obtain ⟨hp, ep⟩ := wf_pl hw hk
  have h2 : u 2 0 = t 5 0 := rel_there h
  have h34 : u 1 34 = t 4 0 := h.2.2.1
  have h6 := (rel_gal h hp).2.1
  unfold actk fX1_whyNot
  rw [if_neg (by decide), if_neg (by decide), there_b1, ite_b1]
  have hM : ∀ M, fX2_go (va_up M 1 u) (nI k) (nI g) = if hb (t 5 0) (nI k) = true then (if hb (t 0 (pl t k)) (nI g) = true then (if hb (t 4 0) (nI (pl t k)) = true then some (6, va_up M 1 u) else if hb (t 4 0) (nI g) = true then some (6, va_up M 1 u) else some (0, va_up M 1 (va_up u 1 (va_up (u 1) (16 + k) (nI g))))) else some (5, va_up M 1 u)) else some (1, va_up M 1 u) := by
    intro M
    unfold fX2_go
    simp only [sm_at, thereM_b1 hk, ite_b1, h2, Option.bind_some, show (16 : Int32) + nI k = nI (16 + k) from nI_add 16 k, rd36 (show 16 + k < 36 by omega), q2, ep, rd10 hp, h6, has_b1, show (34 : Int32) = nI 34 from rfl, rd36 (show 34 < 36 by omega), h34, wr36 (show 16 + k < 36 by omega), sm_up]
  simp only [hM]
  cases hz : hb (t 5 0) (nI k) with
  | false => exact ⟨1, by rw [if_neg (by simp)], Or.inr ⟨by decide, fun M => by rw [if_neg (by simp)]⟩⟩
  | true =>
    rw [if_pos rfl, if_neg (by decide), if_pos (by decide)]
    unfold fX1_whyNotGo
    simp only [rd8 hk, Option.bind_some, ep, rd10 hp, holds_b1, ite_b1, if_true]
    cases g1 : hb (t 0 (pl t k)) (nI g) with
    | false => exact ⟨5, by simp, Or.inr ⟨by decide, fun M => by simp⟩⟩
    | true =>
      cases g2 : hb (t 4 0) (nI (pl t k)) with
      | true => exact ⟨6, by simp, Or.inr ⟨by decide, fun M => by simp⟩⟩
      | false =>
        cases g3 : hb (t 4 0) (nI g) with
        | true => exact ⟨6, by simp, Or.inr ⟨by decide, fun M => by simp⟩⟩
        | false =>
          refine ⟨0, by simp, Or.inl ⟨rfl, va_up t 10 (va_up (t 10) k (nI g)), va_up u 1 (va_up (u 1) (16 + k) (nI g)), fun M => ?_, fun M => by simp, ?_, ?_, kpu_1⟩⟩
          · unfold fX1_happen
            rw [if_neg (by decide), if_neg (by decide), if_pos rfl]
            show Option.bind (am_wr (va_up M 3 t) 3 10 8 (nI k) (nI g)) _ = _
            rw [wr8 hk, sm_up]
            rfl
          · obtain ⟨w0, w1, w2, w3, w4, w5, w6, w7, w8, w9, w10, w11⟩ := hw
            refine ⟨w0, w1, w2, w3, w4, w5, w6, fun x hx => ?_, w8, w9, w10, w11⟩
            by_cases z : x = k
            · exact ⟨g, hg, by show va_up (t 10) k (nI g) x = _; simp [va_up, z]⟩
            · obtain ⟨y, hy, ey⟩ := w7 x hx
              exact ⟨y, hy, by show va_up (t 10) k (nI g) x = _; simp only [va_up, z, if_false]; exact ey⟩
          · exact rel_set h (by omega) (fun y hy => ⟨by omega, by omega, by omega⟩) (fun g hg => by omega) (by omega) (by omega) (by omega)
/-- the reference's fall, as it stands in its text -/
def fallM (M : am_M) (v : Int32) : Option (Int32 × am_M) := Option.bind (am_rd (M 1 1) 36 34) fun v5 => Option.bind (am_wr M 1 1 36 34 (v5 ^^^ ((1 : Int32) <<< (v &&& 31)))) fun M7 => some (0, M7)
theorem act_fall {t u : Nat → Nat → Int32} (hw : wf t) (h : rel t (nowv u)) (k : Int32) {g : Nat} (hg : g < 10) : actk t u 3 k (nI g) (fun M => fallM M (nI g)) := by
  have h34 : u 1 34 = t 4 0 := h.2.2.1
  have hw' := hw
  obtain ⟨w0, w1, w2, w3, ⟨s, hs, w4⟩, w5, w6, w7, w8, w9, w10, w11⟩ := hw
  have hp : 2 ^ g < 1024 := Nat.pow_lt_pow_right (show 1 < 2 by omega) hg
  refine ⟨0, by unfold fX1_whyNot; rw [if_neg (by decide), if_pos (by decide)], Or.inl ⟨rfl, va_up t 4 (va_up (t 4) 0 (nI (s ^^^ 2 ^ g))), va_up u 1 (va_up (u 1) 34 (nI (s ^^^ 2 ^ g))), fun M => ?_, fun M => ?_, ?_, ?_, kpu_1⟩⟩
  · unfold fX1_happen
    rw [if_neg (by decide), if_neg (by decide), if_neg (by decide), if_pos rfl]
    show some (am_put (va_up M 3 t) 3 4 ((va_up M 3 t 3 4 0) ^^^ _)) = _
    rw [sm_at, sm_put, w4, one_shl (by omega), nI_xor (by omega) (by omega)]
  · unfold fallM
    simp only [sm_at, show (34 : Int32) = nI 34 from rfl, rd36 (show 34 < 36 by omega), Option.bind_some, h34, wr36 (show 34 < 36 by omega), sm_up, w4]
    rw [one_shl (by omega), nI_xor (by omega) (by omega)]
  · exact ⟨w0, w1, w2, w3, ⟨s ^^^ 2 ^ g, Nat.xor_lt_two_pow (n := 10) hs hp, rfl⟩, w5, w6, w7, w8, w9, w10, w11⟩
  · exact rel_set h (by omega) (fun y hy => ⟨by omega, by omega, by omega⟩) (fun g hg => by omega) (by omega) (by omega) (by omega)
theorem kpu_be {t u : Nat → Nat → Int32} : kpu u (ube t u 8) := fun f h1 h2 => by
  unfold ube ubr u35
  simp [va_up, h1, h2]
theorem act_pass {t u : Nat → Nat → Int32} (hw : wf t) (h : rel t (nowv u)) (k v : Int32) : actk t u 4 k v fX2_beat := by
  unfold actk fX1_whyNot
  rw [if_pos (by decide)]
  simp only [beat_eq hw h]
  by_cases h9 : t 12 0 = 999
  · rw [if_pos h9]
    exact ⟨7, rfl, Or.inr ⟨by decide, fun M => by rw [if_pos h9]⟩⟩
  · rw [if_neg h9]
    refine ⟨0, rfl, Or.inl ⟨rfl, paR t, ube t u 8, fun M => ?_, fun M => by rw [if_neg h9], wf_pass hw h9, rel_pass h, kpu_be⟩⟩
    unfold fX1_happen
    rw [if_neg (by decide), if_neg (by decide), if_neg (by decide), if_neg (by decide)]
    have q := pass_eq hw M 1
    rw [show fX1_pass (va_up M 3 t) 1 = some (va_up M 3 (paR t)) from q]
    rfl
