/-! HOW FAR, in the reference -/
set_option maxRecDepth 100000
def rx (P : Nat → Nat → Bool) (S : Nat → Bool) (g h : Nat) (F : Nat → Nat) : Nat → Nat := va_up F h (if (P g h && S h) = true ∧ F g + 1 < F h then F g + 1 else F h)
def rxH (P : Nat → Nat → Bool) (S : Nat → Bool) (g : Nat) (F : Nat → Nat) (n : Nat) : Nat → Nat := fo (fun h F => rx P S g h F) F n
def rxG (P : Nat → Nat → Bool) (S : Nat → Bool) (F : Nat → Nat) (n : Nat) : Nat → Nat := fo (fun g F => rxH P S g F 10) F n
def rxI (P : Nat → Nat → Bool) (S : Nat → Bool) (F : Nat → Nat) (n : Nat) : Nat → Nat := fo (fun _ F => rxG P S F 10) F n
def rx0 (S : Nat → Bool) (x h : Nat) : Nat := if h = x ∧ S h = true then 0 else 1000000
/-- sound: never nearer than it is -/
def snd (P : Nat → Nat → Bool) (S : Nat → Bool) (x : Nat) (F : Nat → Nat) : Prop := ∀ h, h < 10 → F h ≤ 1000000 ∧ (F h < 1000000 → rc P S x (F h) h = true)
theorem rx_le (P : Nat → Nat → Bool) (S : Nat → Bool) (g h : Nat) (F : Nat → Nat) (z : Nat) : rx P S g h F z ≤ F z := by
  unfold rx
  by_cases e : z = h
  · subst e
    simp only [va_up, if_true]
    split <;> omega
  · simp [va_up, e]
theorem rx_snd {P : Nat → Nat → Bool} {S : Nat → Bool} {x g h : Nat} {F : Nat → Nat} (hg : g < 10) (hF : snd P S x F) : snd P S x (rx P S g h F) := by
  intro z hz
  refine ⟨Nat.le_trans (rx_le P S g h F z) (hF z hz).1, fun q => ?_⟩
  unfold rx at q ⊢
  by_cases e : z = h
  · subst e
    simp only [va_up, if_true] at q ⊢
    by_cases c : (P g z && S z) = true ∧ F g + 1 < F z
    · rw [if_pos c]
      have h1 := (hF z hz).1
      have h2 := (hF g hg).2 (by omega)
      rw [Bool.and_eq_true] at c
      exact rc_step hg h2 c.1.1 c.1.2
    · rw [if_neg c] at q ⊢
      exact (hF z hz).2 q
  · simp only [va_up, e, if_false] at q ⊢
    exact (hF z hz).2 q
theorem rxH_ok {P : Nat → Nat → Bool} {S : Nat → Bool} {x g : Nat} {F : Nat → Nat} (hg : g < 10) (hF : snd P S x F) : ∀ n, n ≤ 10 → snd P S x (rxH P S g F n) ∧ (∀ z, rxH P S g F n z ≤ F z) ∧ ∀ h, h < n → (P g h && S h) = true → rxH P S g F n h ≤ F g + 1 := by
  intro n
  induction n with
  | zero => intro _; exact ⟨hF, fun z => Nat.le_refl _, fun h q => by omega⟩
  | succ n ih =>
    intro hn
    obtain ⟨a1, a2, a3⟩ := ih (by omega)
    show snd P S x (rx P S g n (rxH P S g F n)) ∧ (∀ z, rx P S g n (rxH P S g F n) z ≤ F z) ∧ ∀ h, h < n + 1 → (P g h && S h) = true → rx P S g n (rxH P S g F n) h ≤ F g + 1
    refine ⟨rx_snd hg a1, fun z => Nat.le_trans (rx_le _ _ _ _ _ z) (a2 z), fun h hh c => ?_⟩
    by_cases e : h = n
    · subst e
      unfold rx
      simp only [va_up, if_true]
      have := a2 g
      by_cases q : (P g h && S h) = true ∧ rxH P S g F h g + 1 < rxH P S g F h h
      · rw [if_pos q]; omega
      · rw [if_neg q]
        have : ¬ rxH P S g F h g + 1 < rxH P S g F h h := fun w => q ⟨c, w⟩
        omega
    · exact Nat.le_trans (rx_le _ _ _ _ _ h) (a3 h (by omega) c)
theorem rxG_ok {P : Nat → Nat → Bool} {S : Nat → Bool} {x : Nat} {F : Nat → Nat} (hF : snd P S x F) : ∀ n, n ≤ 10 → snd P S x (rxG P S F n) ∧ (∀ z, rxG P S F n z ≤ F z) ∧ ∀ g, g < n → ∀ h, h < 10 → (P g h && S h) = true → rxG P S F n h ≤ F g + 1 := by
  intro n
  induction n with
  | zero => intro _; exact ⟨hF, fun z => Nat.le_refl _, fun g q => by omega⟩
  | succ n ih =>
    intro hn
    obtain ⟨a1, a2, a3⟩ := ih (by omega)
    obtain ⟨b1, b2, b3⟩ := rxH_ok (g := n) (by omega) a1 10 (Nat.le_refl _)
    refine ⟨b1, fun z => Nat.le_trans (b2 z) (a2 z), fun g hg h hh c => ?_⟩
    by_cases e : g = n
    · subst e
      have := b3 h hh c
      have := a2 g
      show rxH P S g (rxG P S F g) 10 h ≤ F g + 1
      omega
    · exact Nat.le_trans (b2 h) (a3 g (by omega) h hh c)
theorem rxI_ok {P : Nat → Nat → Bool} {S : Nat → Bool} {x : Nat} : ∀ n, snd P S x (rxI P S (rx0 S x) n) ∧ ∀ k, k ≤ n → ∀ h, h < 10 → rc P S x k h = true → rxI P S (rx0 S x) n h ≤ k := by
  intro n
  induction n with
  | zero =>
    refine ⟨fun h hh => ?_, fun k hk h hh q => ?_⟩
    · show rx0 S x h ≤ 1000000 ∧ (rx0 S x h < 1000000 → rc P S x (rx0 S x h) h = true)
      unfold rx0
      by_cases c : h = x ∧ S h = true
      · rw [if_pos c]
        refine ⟨by omega, fun _ => ?_⟩
        rw [c.1]; rw [c.1] at c; exact rc_0 c.2
      · rw [if_neg c]
        exact ⟨Nat.le_refl _, fun q => by omega⟩
    · have : k = 0 := by omega
      subst this
      have hs := rc_S q
      unfold rc at q
      rw [Bool.and_eq_true, decide_eq_true_eq] at q
      show rx0 S x h ≤ 0
      unfold rx0
      rw [if_pos ⟨q.1, hs⟩]
      exact Nat.le_refl _
  | succ n ih =>
    obtain ⟨a1, a2⟩ := ih
    obtain ⟨b1, b2, b3⟩ := rxG_ok a1 10 (Nat.le_refl _)
    refine ⟨b1, fun k hk h hh q => ?_⟩
    show rxG P S (rxI P S (rx0 S x) n) 10 h ≤ k
    by_cases c : k ≤ n
    · exact Nat.le_trans (b2 h) (a2 k c h hh q)
    · have e : k = n + 1 := by omega
      subst e
      have hs := rc_S q
      rcases rc_case q with q1 | ⟨g, hg, q1, q2⟩
      · exact Nat.le_trans (Nat.le_trans (b2 h) (a2 n (Nat.le_refl _) h hh q1)) (by omega)
      · have h1 := b3 g hg h hh (by rw [q2, hs]; rfl)
        have h2 := a2 n (Nat.le_refl _) g hg q1
        omega
def fdN (P : Nat → Nat → Bool) (S : Nat → Bool) (x h : Nat) : Nat := if fd P S x h < 10 then fd P S x h else 1000000
theorem rx_fd {P : Nat → Nat → Bool} {S : Nat → Bool} {x h : Nat} (hx : x < 10) (hh : h < 10) : rxI P S (rx0 S x) 10 h = fdN P S x h := by
  obtain ⟨a1, a2⟩ := rxI_ok (P := P) (S := S) (x := x) 10
  obtain ⟨b1, b2⟩ := a1 h hh
  unfold fdN
  rcases fd_ok P S x h with ⟨c1, c2, c3⟩ | ⟨c1, c2⟩
  · rw [if_pos c1]
    have h1 := a2 _ (by omega) h hh c2
    have h2 := b2 (by omega)
    rcases Nat.lt_or_ge (rxI P S (rx0 S x) 10 h) (fd P S x h) with q | q
    · rw [c3 _ q] at h2; exact absurd h2 (by decide)
    · omega
  · rw [if_neg (by omega)]
    rcases Nat.lt_or_ge (rxI P S (rx0 S x) 10 h) 1000000 with q | q
    · have := rc_nine hx hh (b2 q)
      rw [c2 9 (by omega)] at this
      exact absurd this (by decide)
    · omega
/-! the reference's loops -/
def faA (F : Nat → Nat) (B : Nat → Int32) : Nat → Int32 := fun h => if h < 10 then nI (F h) else B h
theorem fa_rd {N : am_M} {u : Nat → Nat → Int32} {F : Nat → Nat} {B : Nat → Int32} {h : Nat} (hh : h < 10) : am_rd (va_up u 18 (faA F B) 18) 10 (nI h) = some (nI (F h)) := by
  rw [show va_up u 18 (faA F B) 18 = faA F B by simp [va_up], rd10 hh]
  unfold faA
  rw [if_pos hh]
theorem fa_wr {N : am_M} {u : Nat → Nat → Int32} {F : Nat → Nat} {B : Nat → Int32} {h v : Nat} (hh : h < 10) : am_wr (va_up N 1 (va_up u 18 (faA F B))) 1 18 10 (nI h) (nI v) = some (va_up N 1 (va_up u 18 (faA (va_up F h v) B))) := by
  rw [wr10 hh, sm_up]
  congr 2
  rw [show va_up u 18 (faA F B) 18 = faA F B by simp [va_up]]
  funext f x
  by_cases hf : f = 18
  · subst hf
    simp only [va_up, if_true]
    unfold faA
    by_cases hx : x = h
    · subst hx; simp [va_up, hh]
    · simp [va_up, hx]
  · simp [va_up, hf]
theorem layH {N : am_M} {u : Nat → Nat → Int32} {p : Nat → Nat} (hp : ∀ g, g < 10 → p g < 1024 ∧ u 6 g = nI (p g)) {σ x g : Nat} (hσ : σ < 1024) (hg : g < 10) {F : Nat → Nat} {B : Nat → Int32} {W : am_M} (hF : snd (fun g h => (p g).testBit h) (fun h => σ.testBit h) x F) : am_it (fX2_layFar_L60 (nI σ) (nI g, W)) am_fuel ((0 : Int32), va_up N 1 (va_up u 18 (faA F B))) = some (nI 10, va_up N 1 (va_up u 18 (faA (rxH (fun g h => (p g).testBit h) (fun h => σ.testBit h) g F 10) B))) := by
  refine it_run0 (F := fX2_layFar_L60 (nI σ) (nI g, W)) (fun i => (nI i, va_up N 1 (va_up u 18 (faA (rxH (fun g h => (p g).testBit h) (fun h => σ.testBit h) g F i) B)))) 10 (by omega) (fun i hi rec => ?_) (fun rec => ?_)
  · obtain ⟨a1, -, -⟩ := rxH_ok hg hF i (by omega)
    have k1 := (a1 g hg).1
    have k2 := (a1 i hi).1
    have r6 : ∀ A, va_up u 18 A 6 = u 6 := fun _ => rfl
    have hpg := (hp g hg).1
    unfold fX2_layFar_L60
    simp only [if_neg (n10 hi), sm_at, r6, rd10 (f := u 6) hg, (hp g hg).2, Option.bind_some, has_hb, hb_bit (show p g < 2 ^ 31 by omega) (show i < 31 by omega), hb_bit (show σ < 2 ^ 31 by omega) (show i < 31 by omega), fa_rd (N := N) hg, fa_rd (N := N) hi, nI_add1]
    rw [show rxH (fun g h => (p g).testBit h) (fun h => σ.testBit h) g F (i + 1) = rx (fun g h => (p g).testBit h) (fun h => σ.testBit h) g i (rxH (fun g h => (p g).testBit h) (fun h => σ.testBit h) g F i) from rfl]
    generalize rxH (fun g h => (p g).testBit h) (fun h => σ.testBit h) g F i = F1 at k1 k2
    unfold rx
    simp only [lit_le (n := F1 i) (i := F1 g + 1) (by omega) (by omega)]
    rcases Bool.eq_false_or_eq_true ((p g).testBit i) with c1 | c1
    · rcases Bool.eq_false_or_eq_true (σ.testBit i) with c2 | c2
      · simp only [c1, c2, Bool.true_and, true_and, if_true, if_neg (show ¬ (1 : Int32) = 0 by decide)]
        by_cases c : F1 i ≤ F1 g + 1
        · rw [if_pos c, Option.bind_some, if_neg (by omega), fa_wr hi, Option.bind_some]
        · rw [if_neg c, Option.bind_some, if_pos (by omega), fa_wr hi, Option.bind_some]
      · simp only [c1, c2, Bool.true_and, Bool.false_eq_true, false_and, if_false, if_true, if_neg (show ¬ (1 : Int32) = 0 by decide), Option.bind_some]
        rw [fa_wr hi, Option.bind_some]
    · simp only [c1, Bool.false_and, Bool.false_eq_true, false_and, if_false, if_true, Option.bind_some]
      rw [fa_wr hi, Option.bind_some]
  · unfold fX2_layFar_L60
    simp only [if_pos p10]
theorem layG {N : am_M} {u : Nat → Nat → Int32} {p : Nat → Nat} (hp : ∀ g, g < 10 → p g < 1024 ∧ u 6 g = nI (p g)) {σ x : Nat} (hσ : σ < 1024) {F : Nat → Nat} {B : Nat → Int32} (hF : snd (fun g h => (p g).testBit h) (fun h => σ.testBit h) x F) : am_it (fX2_layFar_L50 (nI σ)) am_fuel ((0 : Int32), va_up N 1 (va_up u 18 (faA F B))) = some (nI 10, va_up N 1 (va_up u 18 (faA (rxG (fun g h => (p g).testBit h) (fun h => σ.testBit h) F 10) B))) := by
  refine it_run0 (F := fX2_layFar_L50 (nI σ)) (fun i => (nI i, va_up N 1 (va_up u 18 (faA (rxG (fun g h => (p g).testBit h) (fun h => σ.testBit h) F i) B)))) 10 (by omega) (fun i hi rec => ?_) (fun rec => ?_)
  · obtain ⟨a1, -, -⟩ := rxG_ok hF i (by omega)
    unfold fX2_layFar_L50
    simp only [if_neg (n10 hi), nI_add1]
    rw [layH hp hσ hi a1, Option.bind_some]
    rfl
  · unfold fX2_layFar_L50
    simp only [if_pos p10]
theorem layI {N : am_M} {u : Nat → Nat → Int32} {p : Nat → Nat} (hp : ∀ g, g < 10 → p g < 1024 ∧ u 6 g = nI (p g)) {σ x : Nat} (hσ : σ < 1024) {B : Nat → Int32} : am_it (fX2_layFar_L41 (nI σ)) am_fuel ((0 : Int32), va_up N 1 (va_up u 18 (faA (rx0 (fun h => σ.testBit h) x) B))) = some (nI 10, va_up N 1 (va_up u 18 (faA (rxI (fun g h => (p g).testBit h) (fun h => σ.testBit h) (rx0 (fun h => σ.testBit h) x) 10) B))) := by
  refine it_run0 (F := fX2_layFar_L41 (nI σ)) (fun i => (nI i, va_up N 1 (va_up u 18 (faA (rxI (fun g h => (p g).testBit h) (fun h => σ.testBit h) (rx0 (fun h => σ.testBit h) x) i) B)))) 10 (by omega) (fun i hi rec => ?_) (fun rec => ?_)
  · obtain ⟨a1, -⟩ := rxI_ok (P := fun g h => (p g).testBit h) (S := fun h => σ.testBit h) (x := x) i
    unfold fX2_layFar_L41
    simp only [if_neg (n10 hi), nI_add1]
    rw [layG hp hσ a1, Option.bind_some]
    rfl
  · unfold fX2_layFar_L41
    simp only [if_pos p10]
def fa0 (F : Nat → Nat) (B : Nat → Int32) (i : Nat) : Nat → Int32 := fun h => if h < i then nI (F h) else B h
theorem lay0 {N : am_M} {u : Nat → Nat → Int32} {σ x : Nat} (hσ : σ < 1024) (hx : x < 10) : am_it (fX2_layFar_L2 (nI x) (nI σ)) am_fuel ((0 : Int32), va_up N 1 u) = some (nI 10, va_up N 1 (va_up u 18 (faA (rx0 (fun h => σ.testBit h) x) (u 18)))) := by
  have z : va_up N 1 u = va_up N 1 (va_up u 18 (fa0 (rx0 (fun h => σ.testBit h) x) (u 18) 0)) := by
    congr 1
    have : fa0 (rx0 (fun h => σ.testBit h) x) (u 18) 0 = u 18 := by
      funext h; unfold fa0; rw [if_neg (by omega)]
    rw [this, up_same]
  rw [z]
  refine it_run0 (F := fX2_layFar_L2 (nI x) (nI σ)) (fun i => (nI i, va_up N 1 (va_up u 18 (fa0 (rx0 (fun h => σ.testBit h) x) (u 18) i)))) 10 (by omega) (fun i hi rec => ?_) (fun rec => ?_)
  · unfold fX2_layFar_L2
    simp only [if_neg (n10 hi), nI_add1, has_hb, hb_bit (show σ < 2 ^ 31 by omega) (show i < 31 by omega), lit_eq (n := i) (i := x) (by omega) (by omega)]
    have e : (if i = x then (if (if σ.testBit i = true then (1 : Int32) else 0) = 0 then some (1000000 : Int32) else some 0) else some 1000000) = some (nI (rx0 (fun h => σ.testBit h) x i)) := by
      unfold rx0
      by_cases c : i = x
      · rw [if_pos c]
        rcases Bool.eq_false_or_eq_true (σ.testBit i) with c2 | c2
        · simp only [c2, if_true]
          rw [if_neg (by decide), if_pos ⟨c, trivial⟩]; rfl
        · simp only [c2, Bool.false_eq_true, if_false]
          rw [if_pos trivial, if_neg (fun q => q.2)]; rfl
      · rw [if_neg c, if_neg (fun q => c q.1)]; rfl
    rw [e, Option.bind_some, wr10 hi, Option.bind_some, sm_up]
    congr 2
    rw [show va_up u 18 (fa0 (rx0 (fun h => σ.testBit h) x) (u 18) i) 18 = fa0 (rx0 (fun h => σ.testBit h) x) (u 18) i by simp [va_up]]
    congr 1
    funext f y
    by_cases hf : f = 18
    · subst hf
      simp only [va_up, if_true]
      unfold fa0
      by_cases hy : y = i
      · subst hy; simp
      · have : (y < i + 1) = (y < i) := propext (by omega)
        simp [hy, this]
    · simp [va_up, hf]
  · unfold fX2_layFar_L2
    simp only [if_pos p10]
    rfl
def lyU (u : Nat → Nat → Int32) (p : Nat → Nat) (σ x : Nat) : Nat → Nat → Int32 := va_up u 18 (faA (fdN (fun g h => (p g).testBit h) (fun h => σ.testBit h) x) (u 18))
theorem lay_eq (N : am_M) {u : Nat → Nat → Int32} {p : Nat → Nat} (hp : ∀ g, g < 10 → p g < 1024 ∧ u 6 g = nI (p g)) {σ x : Nat} (hσ : σ < 1024) (hx : x < 10) : fX2_layFar (va_up N 1 u) (nI x) (nI σ) = some (va_up N 1 (lyU u p σ x)) := by
  unfold fX2_layFar
  rw [lay0 hσ hx, Option.bind_some]
  simp only []
  rw [layI hp hσ, Option.bind_some]
  have e : faA (rxI (fun g h => (p g).testBit h) (fun h => σ.testBit h) (rx0 (fun h => σ.testBit h) x) 10) (u 18) = faA (fdN (fun g h => (p g).testBit h) (fun h => σ.testBit h) x) (u 18) := by
    funext h
    unfold faA
    by_cases hh : h < 10
    · rw [if_pos hh, if_pos hh, rx_fd hx hh]
    · rw [if_neg hh, if_neg hh]
  rw [e]
  rfl
