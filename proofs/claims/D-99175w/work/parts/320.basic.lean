/-! PURE 3: equations of the readers and writers; counted loops; the smallest methods -/
section eqs
variable {γ : Type} {σ : Hp} {a c k t : Nat}
theorem e_gI {K : Int32 → Option γ} (h : Ok σ a c) : gI c k σ (some a) K = K (hi σ a k) := if_pos h
theorem e_gR {K : Option Nat → Option γ} (h : Ok σ a c) : gR c k σ (some a) K = K (hr σ a k) := if_pos h
theorem e_ob {K : Nat → Option γ} (h : Ok σ a c) : ob c σ (some a) K = K a := if_pos h
theorem e_pI {v : Int32} {K : Hp → Option γ} (h : Ok σ a c) : pI 0 c k σ (some a) v K = K (wI σ a k v) := by
  unfold pI; rw [e_ob h]; rfl
theorem e_pR {v : Option Nat} {K : Hp → Option γ} (h : Ok σ a c) : pR c k σ (some a) v K = K (wR σ a k v) := e_ob h
theorem e_ar {i : Int32} {K : Nat → Nat → Option γ} (h : Ok σ a t) (hi' : inb i (hk σ a).2) : ar t σ (some a) i K = K a (ix i) := if_pos ⟨h, hi'⟩
theorem e_lI {i : Int32} {K : Int32 → Option γ} (h : Ok σ a t) (hi' : inb i (hk σ a).2) : lI t σ (some a) i K = K (hi σ a (ix i)) := e_ar h hi'
theorem e_lL {i : Int32} {K : Int64 → Option γ} (h : Ok σ a 103) (hi' : inb i (hk σ a).2) : lL σ (some a) i K = K (hl σ a (ix i)) := e_ar h hi'
theorem e_lR {i : Int32} {K : Option Nat → Option γ} (h : Ok σ a 104) (hi' : inb i (hk σ a).2) : lR σ (some a) i K = K (hr σ a (ix i)) := e_ar h hi'
theorem e_sI {i v : Int32} {K : Hp → Option γ} (h : Ok σ a 100) (hi' : inb i (hk σ a).2) : sI σ (some a) i v K = K (wI σ a (ix i) v) := e_ar h hi'
theorem e_sB {i v : Int32} {K : Hp → Option γ} (h : Ok σ a 101) (hi' : inb i (hk σ a).2) : sB σ (some a) i v K = K (wI σ a (ix i) (vp_nar .byte v)) := e_ar h hi'
theorem e_sZ {i v : Int32} {K : Hp → Option γ} (h : Ok σ a 102) (hi' : inb i (hk σ a).2) : sZ σ (some a) i v K = K (wI σ a (ix i) (vp_nar .boolean v)) := e_ar h hi'
theorem e_sL {i : Int32} {v : Int64} {K : Hp → Option γ} (h : Ok σ a 103) (hi' : inb i (hk σ a).2) : sL σ (some a) i v K = K (wL σ a (ix i) v) := e_ar h hi'
theorem e_bnd {β : Type} {r : β} {K : β → Hp → Option (γ × Hp)} : bnd (some (r, σ)) K = K r σ := rfl
theorem e_nn {K : Option γ} : nn (some a) K = K := rfl
theorem e_rz0 : rz1 0 σ = some (0, σ) := rfl
theorem e_rz1 : rz1 1 σ = some (1, σ) := rfl
end eqs
/-- a truth value -/
def b2 (p : Prop) [Decidable p] : Int32 := if p then 1 else 0
theorem b2_eq0 {p : Prop} [Decidable p] : b2 p = 0 ↔ ¬ p := by
  unfold b2; by_cases h : p <;> simp [h]
theorem b2_eq1 {p : Prop} [Decidable p] : b2 p = 1 ↔ p := by
  unfold b2; by_cases h : p <;> simp [h]
theorem e_rzb {p : Prop} [Decidable p] {σ : Hp} : rz1 (b2 p) σ = some (b2 p, σ) := by
  unfold b2; by_cases h : p <;> simp [h, e_rz0, e_rz1]
theorem b2_ite {γ : Type} {p : Prop} [Decidable p] {A B : γ} : (if b2 p = 0 then A else B) = if p then B else A := by
  by_cases h : p <;> simp [b2, h]
theorem b2_ite1 {γ : Type} {p : Prop} [Decidable p] {A B : γ} : (if b2 p = 1 then A else B) = if p then A else B := by
  by_cases h : p <;> simp [b2, h]
/-- a loop that counts: its states by number -/
theorem lp_up {α γ : Type} {B : (α → Hp → Option γ) → α → Hp → Option γ} {fin : Option γ} (N : Nat) (st : Nat → α) (hp : Nat → Hp) (hs : ∀ ag i, i < N → B ag (st i) (hp i) = ag (st (i + 1)) (hp (i + 1))) (hx : ∀ ag, B ag (st N) (hp N) = fin) : ∀ n i, i ≤ N → N - i < n → lp n B (st i) (hp i) = fin := by
  intro n
  induction n with
  | zero => intro i _ h; exact absurd h (Nat.not_lt_zero _)
  | succ n ih =>
    intro i hi hn'
    show B (lp n B) (st i) (hp i) = fin
    by_cases h : i = N
    · subst h; exact hx _
    · rw [hs _ i (by omega)]
      exact ih (i + 1) (by omega) (by omega)
theorem lp_up0 {α γ : Type} {B : (α → Hp → Option γ) → α → Hp → Option γ} {fin : Option γ} (N : Nat) (st : Nat → α) (hp : Nat → Hp) (hs : ∀ ag i, i < N → B ag (st i) (hp i) = ag (st (i + 1)) (hp (i + 1))) (hx : ∀ ag, B ag (st N) (hp N) = fin) (hN : N < 2000) {a : α} {σ : Hp} (ha : a = st 0) (hσ : σ = hp 0) : lp 2000 B a σ = fin := by
  subst ha; subst hσ
  exact lp_up N st hp hs hx 2000 0 (Nat.zero_le _) (by omega)
def sumI (f : Nat → Int32) : Nat → Int32
  | 0 => 0
  | n + 1 => sumI f n + f n
def orI (f : Nat → Int32) : Nat → Int32
  | 0 => 0
  | n + 1 => orI f n ||| f n
theorem i64_lt {a b : Int32} : a.toInt64 < b.toInt64 ↔ a < b := by
  rw [Int64.lt_iff_toInt_lt, Int32.lt_iff_toInt_lt]; simp
theorem i64_le {a b : Int32} : a.toInt64 ≤ b.toInt64 ↔ a ≤ b := by
  rw [Int64.le_iff_toInt_le, Int32.le_iff_toInt_le]; simp
theorem i32_le_of {a b : Int32} : ¬ a < b ↔ b ≤ a := Int32.not_lt
section basic
variable {σ : Hp}
theorem c_in {a b c : Int32} : f_X1_in a.toInt64 b.toInt64 c.toInt64 σ = some (b2 (b ≤ a ∧ a ≤ c), σ) := by
  unfold f_X1_in
  simp only [lg_cmp_lt, lg_cmp_gt, i64_lt]
  by_cases h1 : a < b
  · have : ¬ b ≤ a := Int32.not_le.mpr h1
    simp [h1, this, b2, e_rz0]
  · have h1' : b ≤ a := Int32.not_lt.mp h1
    by_cases h2 : c < a
    · have : ¬ a ≤ c := Int32.not_le.mpr h2
      simp [h1, h2, this, b2, e_rz0]
    · have : a ≤ c := Int32.not_lt.mp h2
      simp [h1, h2, h1', this, b2, e_rz1]
theorem m_in {a b c : Int32} : f_X3_in a b c σ = some (b2 (b ≤ a ∧ a ≤ c), σ) := by
  unfold f_X3_in
  by_cases h1 : a < b
  · have : ¬ b ≤ a := Int32.not_le.mpr h1
    simp [h1, this, b2, e_rz0]
  · have h1' : b ≤ a := Int32.not_lt.mp h1
    by_cases h2 : c < a
    · have : ¬ a ≤ c := Int32.not_le.mpr h2
      simp [h1, h2, this, b2, e_rz0]
    · have : a ≤ c := Int32.not_lt.mp h2
      simp [h1, h2, h1', this, b2, e_rz1]
/-- a bit -/
abbrev bit (b k : Int32) : Prop := (shr b k &&& 1) = 1
theorem c_has {b k : Int32} : f_X1_has b k σ = some (b2 (bit b k), σ) := by
  unfold f_X1_has
  by_cases h : bit b k <;> simp [h, b2, e_rz0, e_rz1]
theorem m_has {b k : Int32} : f_X3_has b k σ = some (b2 (bit b k), σ) := by
  unfold f_X3_has
  by_cases h : bit b k <;> simp [h, b2, e_rz0, e_rz1]
/-- a rider's number -/
abbrev isR (n r : Int32) : Prop := 0 ≤ r ∧ r ≤ n - 1
theorem c_isRider (h : Sh σ) {r : Int32} : f_X1_isRider (some 0) r σ = some (b2 (isR (hi σ 0 5) r), σ) := by
  unfold f_X1_isRider
  rw [e_gI (so_0 h)]
  rw [show (0 : Int64) = Int32.toInt64 0 from rfl, c_in]
  exact e_rzb
theorem m_isMan (h : Sh σ) {r : Int32} : f_X3_isMan (some 37) r σ = some (b2 (isR (hi σ 37 3) r), σ) := by
  unfold f_X3_isMan
  rw [e_gI (so_37 h), m_in]
  exact e_rzb
theorem c_isHour (h : Sh σ) {r : Int32} : f_X1_isHour (some 0) r σ = some (b2 (isR (hi σ 0 6) r), σ) := by
  unfold f_X1_isHour
  rw [e_gI (so_0 h)]
  rw [show (0 : Int64) = Int32.toInt64 0 from rfl, c_in]
  exact e_rzb
theorem m_isHour {r : Int32} : f_X3_isHour r σ = some (b2 (0 ≤ r ∧ r ≤ 7), σ) := by
  unfold f_X3_isHour
  rw [m_in]
  exact e_rzb
abbrev isTwo (n r q : Int32) : Prop := isR n r ∧ isR n q ∧ ¬ r = q
theorem c_isPair (h : Sh σ) {r q : Int32} : f_X1_isPair (some 0) r q σ = some (b2 (isTwo (hi σ 0 5) r q), σ) := by
  unfold f_X1_isPair
  rw [e_ob (so_0 h), c_isRider h, e_bnd, b2_ite]
  by_cases h1 : isR (hi σ 0 5) r
  · rw [if_pos h1, e_ob (so_0 h), c_isRider h, e_bnd, b2_ite]
    by_cases h2 : isR (hi σ 0 5) q
    · rw [if_pos h2]
      by_cases h3 : r = q
      · rw [if_pos h3, b2, if_neg (fun z : isTwo (hi σ 0 5) r q => z.2.2 h3)]; rfl
      · rw [if_neg h3, b2, if_pos (⟨h1, h2, h3⟩ : isTwo (hi σ 0 5) r q)]; rfl
    · rw [if_neg h2, b2, if_neg (fun z : isTwo (hi σ 0 5) r q => h2 z.2.1)]; rfl
  · rw [if_neg h1, b2, if_neg (fun z : isTwo (hi σ 0 5) r q => h1 z.1)]; rfl
theorem m_areTwo (h : Sh σ) {r q : Int32} : f_X3_areTwo (some 37) r q σ = some (b2 (isTwo (hi σ 37 3) r q), σ) := by
  unfold f_X3_areTwo
  rw [e_ob (so_37 h), m_isMan h, e_bnd, b2_ite]
  by_cases h1 : isR (hi σ 37 3) r
  · rw [if_pos h1, e_ob (so_37 h), m_isMan h, e_bnd, b2_ite]
    by_cases h2 : isR (hi σ 37 3) q
    · rw [if_pos h2]
      by_cases h3 : r = q
      · rw [if_pos h3, b2, if_neg (fun z : isTwo (hi σ 37 3) r q => z.2.2 h3)]; rfl
      · rw [if_neg h3, b2, if_pos (⟨h1, h2, h3⟩ : isTwo (hi σ 37 3) r q)]; rfl
    · rw [if_neg h2, b2, if_neg (fun z : isTwo (hi σ 37 3) r q => h2 z.2.1)]; rfl
  · rw [if_neg h1, b2, if_neg (fun z : isTwo (hi σ 37 3) r q => h1 z.1)]; rfl
theorem c_all (h : Sh σ) : f_X1_all (some 0) σ = some (shl 1 (hi σ 0 5) - 1, σ) := e_gI (so_0 h)
theorem c_wholeNight (h : Sh σ) : f_X1_wholeNight (some 0) σ = some (shl 1 (hi σ 0 6) - 1, σ) := e_gI (so_0 h)
theorem m_night (h : Sh σ) : f_X3_night (some 37) σ = some (shl 1 (hi σ 37 1) - 1, σ) := e_gI (so_37 h)
theorem m_thrown (h : Sh σ) : f_X3_thrown (some 37) σ = some (hi σ 37 11, σ) := e_gI (so_37 h)
theorem m_lost (h : Sh σ) : f_X3_lost (some 37) σ = some (0, wI σ 37 11 1) := e_pI (so_37 h)
theorem c_begins (h : Sh σ) {v : Int32} : f_X1_begins (some 0) v σ = some (hi σ 0 10, wI (wI (wI (wI σ 0 10 0) 0 11 0) 0 13 0) 0 12 (imin (hi σ 0 10) v)) := by
  unfold f_X1_begins
  rw [e_gI (so_0 h), e_pI (so_0 h), e_pI (so_0 (σ := wI σ 0 10 0) h), e_pI (so_0 (σ := wI (wI σ 0 10 0) 0 11 0) h), e_pI (so_0 (σ := wI (wI (wI σ 0 10 0) 0 11 0) 0 13 0) h)]
theorem c_tells (h : Sh σ) {v : Int64} {k : Nat} (hk' : hi σ 0 52 = nI k) (h16 : k < 16) : f_X1_tells (some 0) v σ = some ((), wI (wL σ 36 k v) 0 52 (nI (k + 1))) := by
  unfold f_X1_tells
  rw [e_gR (so_0 h), e_gI (so_0 h), sp_0_51 h, e_sL (so_36 h) (by rw [hk', sl_36 h, inb_nI (by omega)]; exact h16), e_gI (Ok_wL.mpr (so_0 h)), e_pI (Ok_wL.mpr (so_0 h))]
  rw [hk', ix_nI (by omega), hi_wL, hk', nI_1]
theorem m_tell (h : Sh σ) {v : Int64} {k : Nat} (hk' : hi σ 37 10 = nI k) (h16 : k < 16) : f_X3_tell (some 37) v σ = some ((), wI (wL σ 43 k v) 37 10 (nI (k + 1))) := by
  unfold f_X3_tell
  rw [e_gR (so_37 h), e_gI (so_37 h), sp_37_9 h, e_sL (so_43 h) (by rw [hk', sl_43 h, inb_nI (by omega)]; exact h16), e_gI (Ok_wL.mpr (so_37 h)), e_pI (Ok_wL.mpr (so_37 h))]
  rw [hk', ix_nI (by omega), hi_wL, hk', nI_1]
/-- sums of the first n -/
theorem c_sumOf (h : Sh σ) {t n : Nat} (hn' : hi σ 0 5 = nI n) (h8 : n ≤ 8) (ht : Ok σ t 100) (hl' : (hk σ t).2 = 8) : f_X1_sumOf (some 0) (some t) σ = some (sumI (hi σ t) n, σ) := by
  unfold f_X1_sumOf
  refine lp_up0 n (fun i => (sumI (hi σ t) i, nI i)) (fun _ => σ) (fun ag i hi' => ?_) (fun ag => ?_) (by omega) rfl rfl
  · unfold f_X1_sumOf_b4
    dsimp only
    rw [e_gI (so_0 h), hn', if_neg (nI_ge hi' (by omega)), e_lI ht (by rw [hl', inb_nI (by omega)]; omega), ix_nI (by omega), nI_1]
    rfl
  · unfold f_X1_sumOf_b4
    dsimp only
    rw [e_gI (so_0 h), hn', if_pos (nI_le (Nat.le_refl _) (by omega))]
theorem m_tired (h : Sh σ) {t n : Nat} (hn' : hi σ 37 3 = nI n) (h8 : n ≤ 8) (ht : Ok σ t 100) (hl' : (hk σ t).2 = 27) : f_X3_tired (some 37) (some t) σ = some (sumI (fun r => hi σ t (8 + r)) n, σ) := by
  unfold f_X3_tired
  refine lp_up0 n (fun i => (sumI (fun r => hi σ t (8 + r)) i, nI i)) (fun _ => σ) (fun ag i hi' => ?_) (fun ag => ?_) (by omega) rfl rfl
  · unfold f_X3_tired_b4
    dsimp only
    rw [e_gI (so_37 h), hn', if_neg (nI_ge hi' (by omega)), n_8, nI_add, e_lI ht (by rw [hl', inb_nI (by omega)]; omega), ix_nI (by omega), nI_1]
    rfl
  · unfold f_X3_tired_b4
    dsimp only
    rw [e_gI (so_37 h), hn', if_pos (nI_le (Nat.le_refl _) (by omega))]
theorem m_illBits (h : Sh σ) {t n : Nat} (hn' : hi σ 37 3 = nI n) (h8 : n ≤ 8) (ht : Ok σ t 100) (hl' : (hk σ t).2 = 27) : f_X3_illBits (some 37) (some t) σ = some (orI (fun r => shl (hi σ t (16 + r)) (nI r)) n, σ) := by
  unfold f_X3_illBits
  refine lp_up0 n (fun i => (orI (fun r => shl (hi σ t (16 + r)) (nI r)) i, nI i)) (fun _ => σ) (fun ag i hi' => ?_) (fun ag => ?_) (by omega) rfl rfl
  · unfold f_X3_illBits_b4
    dsimp only
    rw [e_gI (so_37 h), hn', if_neg (nI_ge hi' (by omega)), n_16, nI_add, e_lI ht (by rw [hl', inb_nI (by omega)]; omega), ix_nI (by omega), nI_1]
    rfl
  · unfold f_X3_illBits_b4
    dsimp only
    rw [e_gI (so_37 h), hn', if_pos (nI_le (Nat.le_refl _) (by omega))]
/-- which hours are one's -/
def hoursI (f : Nat → Int32) (r : Int32) : Int32 := orI (fun h => if f h = r then shl 1 (nI h) else 0) 8
theorem c_hoursOf {s t : Nat} {r : Int32} (hs : Ok σ s 1) (hp : hr σ s 0 = some t) (ht : Ok σ t 100) (hl' : (hk σ t).2 = 8) : f_X2_hoursOf (some s) r σ = some (hoursI (hi σ t) r, σ) := by
  unfold f_X2_hoursOf
  refine lp_up0 8 (fun i => (orI (fun h => if hi σ t h = r then shl 1 (nI h) else 0) i, nI i)) (fun _ => σ) (fun ag i hi' => ?_) (fun ag => ?_) (by omega) rfl rfl
  · unfold f_X2_hoursOf_b4 jn
    dsimp only
    rw [n_8, if_neg (nI_ge hi' (by omega)), e_gR hs, hp, e_lI ht (by rw [hl', inb_nI (by omega)]; omega), ix_nI (by omega), nI_1]
    by_cases hx : hi σ t i = r <;> simp [hx, orI]
  · unfold f_X2_hoursOf_b4
    dsimp only
    rw [n_8, if_pos (nI_le (Nat.le_refl _) (by omega))]
    rfl
theorem m_hoursOf {t : Nat} {x : Option Nat} {r : Int32} (ht : Ok σ t 100) (hl' : 8 ≤ (hk σ t).2) : f_X3_hoursOf x (some t) r σ = some (hoursI (hi σ t) r, σ) := by
  unfold f_X3_hoursOf
  refine lp_up0 8 (fun i => (orI (fun h => if hi σ t h = r then shl 1 (nI h) else 0) i, nI i)) (fun _ => σ) (fun ag i hi' => ?_) (fun ag => ?_) (by omega) rfl rfl
  · unfold f_X3_hoursOf_b5 jn
    dsimp only
    rw [n_8, if_neg (nI_ge hi' (by omega)), e_lI ht (by rw [inb_nI (by omega)]; omega), ix_nI (by omega), nI_1]
    by_cases hx : hi σ t i = r <;> simp [hx, orI]
  · unfold f_X3_hoursOf_b5
    dsimp only
    rw [n_8, if_pos (nI_le (Nat.le_refl _) (by omega))]
    rfl
end basic
