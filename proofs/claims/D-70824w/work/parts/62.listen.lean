/-! OPERATION: listen -/
set_option maxRecDepth 100000
def hk (m : Nat → Nat → Int32) (g c : Nat) : Nat := if fm m g (c / 100) ≤ c % 100 ∧ fm m g (c / 100) < 10 then c % 100 - fm m g (c / 100) + 1 else 0
theorem hk_eq (m : Nat → Nat → Int32) (g c : Nat) : hv m g c + 1 = nI (hk m g c) ∧ 1 + hv m g c = nI (hk m g c) := by
  unfold hv hk
  by_cases q : fm m g (c / 100) ≤ c % 100 ∧ fm m g (c / 100) < 10
  · rw [if_pos q, if_pos q]
    exact ⟨nI_add1 _, by rw [Int32.add_comm]; exact nI_add1 _⟩
  · rw [if_neg q, if_neg q]
    exact ⟨by decide, by decide⟩
theorem hk_lt {m : Nat → Nat → Int32} {g c : Nat} (h : lostP m c = true) : hk m g c < 25 := by
  unfold lostP at h
  rw [Bool.and_eq_true, decide_eq_true_eq] at h
  unfold hk
  split <;> omega
/-- one code more -/
def cs1 (m : Nat → Nat → Int32) (g c : Nat) (p : Nat × (Nat → Nat)) : Nat × (Nat → Nat) := if lostP m c = true then (max p.1 (p.2 (hk m g c) + 1), va_up p.2 (hk m g c) (p.2 (hk m g c) + 1)) else p
def cs (m : Nat → Nat → Int32) (g n : Nat) : Nat × (Nat → Nat) := fo (cs1 m g) (0, fun _ => 0) n
theorem cs_le (m : Nat → Nat → Int32) (g : Nat) : ∀ n, (cs m g n).1 ≤ n ∧ ∀ k, (cs m g n).2 k ≤ n := by
  intro n
  induction n with
  | zero => exact ⟨Nat.le_refl _, fun k => Nat.le_refl _⟩
  | succ n ih =>
    obtain ⟨a1, a2⟩ := ih
    show (cs1 m g n (cs m g n)).1 ≤ n + 1 ∧ ∀ k, (cs1 m g n (cs m g n)).2 k ≤ n + 1
    unfold cs1
    by_cases q : lostP m n = true
    · rw [if_pos q]
      have := a2 (hk m g n)
      refine ⟨Nat.max_le.mpr ⟨by omega, by omega⟩, fun k => ?_⟩
      show va_up (cs m g n).2 (hk m g n) ((cs m g n).2 (hk m g n) + 1) k ≤ n + 1
      by_cases e : k = hk m g n
      · subst e; simp only [va_up, if_true]; omega
      · simp only [va_up, e, if_false]; have := a2 k; omega
    · rw [if_neg q]
      exact ⟨by omega, fun k => by have := a2 k; omega⟩
/-- the count's array of an object's field -/
def ctA (F : Nat → Nat) (B : Nat → Int32) : Nat → Int32 := fun h => if h < 25 then nI (F h) else B h
theorem ct_up {F : Nat → Nat} {B : Nat → Int32} {k v : Nat} (hk : k < 25) : va_up (ctA F B) k (nI v) = ctA (va_up F k v) B := by
  funext x
  unfold ctA
  by_cases e : x = k
  · subst e; simp [va_up, hk]
  · simp [va_up, e]
theorem up_up2 {α : Type} {u : Nat → α} {f : Nat} {A B : α} : va_up (va_up u f A) f B = va_up u f B := by
  funext x
  by_cases e : x = f <;> simp [va_up, e]
theorem most_loop {M : am_M} {o : Nat → Nat → Int32} {B : Nat → Int32} (hw : wf (M 2)) (h16 : ∀ z, z < 100 → o 16 z = frI (fm (M 2) (z / 10) (z % 10))) {g : Nat} (hg : g < 10) : am_it (fX0_mostLeft_L12 (nI g)) am_fuel ((0 : Int32), (0 : Int32), va_up M 0 (va_up o 17 (ctA (fun _ => 0) B))) = some (nI (cs (M 2) g 1000).1, nI 1000, va_up M 0 (va_up o 17 (ctA (cs (M 2) g 1000).2 B))) := by
  refine it_run0 (F := fX0_mostLeft_L12 (nI g)) (fun c => (nI (cs (M 2) g c).1, nI c, va_up M 0 (va_up o 17 (ctA (cs (M 2) g c).2 B)))) 1000 (by omega) (fun c hc rec => ?_) (fun rec => ?_)
  · have nl : ¬ (1000 : Int32) ≤ nI c := nI_ge (a := c) (b := 1000) hc (by omega)
    obtain ⟨l1, l2⟩ := cs_le (M 2) g c
    have h2 : va_up M 0 (va_up o 17 (ctA (cs (M 2) g c).2 B)) 2 = M 2 := sm_ne (by decide)
    have k16 : ∀ z, z < 100 → va_up M 0 (va_up o 17 (ctA (cs (M 2) g c).2 B)) 0 16 z = frI (fm (M 2) (z / 10) (z % 10)) := fun z hz => by rw [sm_at]; exact h16 z hz
    have cb := canBe_eq (M := va_up M 0 (va_up o 17 (ctA (cs (M 2) g c).2 B))) (by rw [h2]; exact hw) (by rw [h2]; exact k16) hc
    rw [h2] at cb
    have he := heard_eq (M := va_up M 0 (va_up o 17 (ctA (cs (M 2) g c).2 B))) k16 hg hc
    show fX0_mostLeft_L12 _ rec (_, _, _) = rec (nI (cs1 (M 2) g c (cs (M 2) g c)).1, _, va_up M 0 (va_up o 17 (ctA (cs1 (M 2) g c (cs (M 2) g c)).2 B)))
    unfold fX0_mostLeft_L12 cs1
    simp only [if_neg nl, cb, he, Option.bind_some, ite_b1, nI_add1, (hk_eq (M 2) g c).2, sm_at]
    have r17 : ∀ A, va_up o 17 A 17 = A := fun _ => rfl
    by_cases q : lostP (M 2) c = true
    · have hl := hk_lt (g := g) q
      rw [if_pos q, if_pos q, r17, rd_n hl (by omega), Option.bind_some, wr_n hl (by omega), Option.bind_some, sm_up, sm_at, r17, up_up2, r17]
      have ev : ctA (cs (M 2) g c).2 B (hk (M 2) g c) + 1 = nI ((cs (M 2) g c).2 (hk (M 2) g c) + 1) := by
        unfold ctA
        rw [if_pos hl]; exact nI_add1 _
      have kk := l2 (hk (M 2) g c)
      rw [ev, ct_up hl, rd_n hl (by omega), Option.bind_some, Option.bind_some]
      dsimp only
      congr 2
      have e1 : ctA (va_up (cs (M 2) g c).2 (hk (M 2) g c) ((cs (M 2) g c).2 (hk (M 2) g c) + 1)) B (hk (M 2) g c) = nI ((cs (M 2) g c).2 (hk (M 2) g c) + 1) := by
        unfold ctA
        rw [if_pos hl]; simp [va_up]
      rw [e1]
      unfold jv_max
      simp only [lit_lt (n := (cs (M 2) g c).1) (i := (cs (M 2) g c).2 (hk (M 2) g c) + 1) (by omega) (by omega), Nat.max_def]
      by_cases w : (cs (M 2) g c).1 < (cs (M 2) g c).2 (hk (M 2) g c) + 1
      · rw [if_pos w, if_pos (by omega)]
      · rw [if_neg w]
        by_cases w2 : (cs (M 2) g c).1 ≤ (cs (M 2) g c).2 (hk (M 2) g c) + 1
        · rw [if_pos w2]; congr 1; omega
        · rw [if_neg w2]
    · rw [if_neg q, if_neg q, Option.bind_some]
  · unfold fX0_mostLeft_L12
    simp only [if_pos (show (1000 : Int32) ≤ nI 1000 by decide)]
theorem worst_loop {N : am_M} {u m : Nat → Nat → Int32} {B : Nat → Int32} (hw : wf m) (h20 : ∀ z, z < 100 → u 20 z = nI (fmN m (z / 10) (z % 10))) (h9 : u 9 0 = m 15 0) (h10 : ∀ e, e < 8 → u 10 (2 * e) = m 13 e ∧ u 10 (2 * e + 1) = m 14 e) {g : Nat} (hg : g < 10) (x y : Int32) (W : am_M) : am_it (fX2_listen_L62 (x, y, nI g, W)) am_fuel ((0 : Int32), (0 : Int32), va_up N 1 (va_up u 21 (ctA (fun _ => 0) B))) = some (nI (cs m g 1000).1, nI 1000, va_up N 1 (va_up u 21 (ctA (cs m g 1000).2 B))) := by
  refine it_run0 (F := fX2_listen_L62 (x, y, nI g, W)) (fun c => (nI (cs m g c).1, nI c, va_up N 1 (va_up u 21 (ctA (cs m g c).2 B)))) 1000 (by omega) (fun c hc rec => ?_) (fun rec => ?_)
  · have nl : ¬ (1000 : Int32) ≤ nI c := nI_ge (a := c) (b := 1000) hc (by omega)
    obtain ⟨l1, l2⟩ := cs_le m g c
    have cb := isLost_eq (u := va_up u 21 (ctA (cs m g c).2 B)) hw h20 h9 h10 hc
    have he := note_eq (u := va_up u 21 (ctA (cs m g c).2 B)) hw h20 hg hc
    show fX2_listen_L62 _ rec (_, _, _) = rec (nI (cs1 m g c (cs m g c)).1, _, va_up N 1 (va_up u 21 (ctA (cs1 m g c (cs m g c)).2 B)))
    unfold fX2_listen_L62 cs1
    simp only [if_neg nl, sm_at, cb, he, Option.bind_some, ite_b1, nI_add1, (hk_eq m g c).1]
    have r21 : ∀ A, va_up u 21 A 21 = A := fun _ => rfl
    by_cases q : lostP m c = true
    · have hl := hk_lt (g := g) q
      rw [if_pos q, if_pos q, r21, rd_n hl (by omega), Option.bind_some, wr_n hl (by omega), Option.bind_some, sm_up, sm_at, r21, up_up2, r21]
      have ev : ctA (cs m g c).2 B (hk m g c) + 1 = nI ((cs m g c).2 (hk m g c) + 1) := by
        unfold ctA
        rw [if_pos hl]; exact nI_add1 _
      have kk := l2 (hk m g c)
      have e1 : ctA (va_up (cs m g c).2 (hk m g c) ((cs m g c).2 (hk m g c) + 1)) B (hk m g c) = nI ((cs m g c).2 (hk m g c) + 1) := by
        unfold ctA
        rw [if_pos hl]; simp [va_up]
      rw [ev, ct_up hl, rd_n hl (by omega), Option.bind_some, e1, Option.bind_some]
      simp only [lit_le (n := (cs m g c).2 (hk m g c) + 1) (i := (cs m g c).1) (by omega) (by omega), Nat.max_def]
      by_cases w : (cs m g c).2 (hk m g c) + 1 ≤ (cs m g c).1
      · rw [if_pos w, Option.bind_some, Option.bind_some]
        by_cases w2 : (cs m g c).1 ≤ (cs m g c).2 (hk m g c) + 1
        · rw [if_pos w2, show (cs m g c).1 = (cs m g c).2 (hk m g c) + 1 by omega]
        · rw [if_neg w2]
      · rw [if_neg w, Option.bind_some, Option.bind_some, if_pos (by omega)]
    · rw [if_neg q, if_neg q, Option.bind_some]
  · unfold fX2_listen_L62
    simp only [if_pos (show (1000 : Int32) ≤ nI 1000 by decide)]
