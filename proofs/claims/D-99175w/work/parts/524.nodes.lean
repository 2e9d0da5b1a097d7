/-! PURE 81: nodes made by the class's reader -/
/-- only new cells, and the fields 11, 13 of the class's object, are written -/
def NR (σ τ : Hp) (m : Nat) : Prop := (hn σ ≤ hn τ ∧ hn τ ≤ hn σ + m) ∧ (hu σ ≤ hu τ ∧ hu τ ≤ hu σ + 5 * m) ∧ ∀ b, b < hn σ → hk τ b = hk σ b ∧ hr τ b = hr σ b ∧ hl τ b = hl σ b ∧ ∀ i, (b = 0 → i ≠ 11 ∧ i ≠ 13) → hi τ b i = hi σ b i
section nodes
variable {σ τ υ : Hp} {m m' a b d k : Nat} {E F : RE} {c : Nat → Int32} {e p : Nat}
theorem NR.refl : NR σ σ 0 := ⟨⟨Nat.le_refl _, Nat.le_refl _⟩, ⟨Nat.le_refl _, Nat.le_refl _⟩, fun _ _ => ⟨rfl, rfl, rfl, fun _ _ => rfl⟩⟩
theorem NR.trans (h : NR σ τ m) (g : NR τ υ m') : NR σ υ (m + m') := by
  obtain ⟨⟨h1, h2⟩, ⟨h3, h4⟩, h5⟩ := h
  obtain ⟨⟨g1, g2⟩, ⟨g3, g4⟩, g5⟩ := g
  refine ⟨⟨by omega, by omega⟩, ⟨by omega, by omega⟩, fun b hb => ?_⟩
  obtain ⟨a1, a2, a3, a4⟩ := h5 b hb
  obtain ⟨b1, b2', b3, b4⟩ := g5 b (by omega)
  exact ⟨b1.trans a1, b2'.trans a2, b3.trans a3, fun i hi' => (b4 i hi').trans (a4 i hi')⟩
theorem NR.le (h : NR σ τ m) (g : m ≤ m') : NR σ τ m' := by
  obtain ⟨⟨h1, h2⟩, ⟨h3, h4⟩, h5⟩ := h
  exact ⟨⟨by omega, by omega⟩, ⟨by omega, by omega⟩, h5⟩
theorem NR.at {q : Nat} : NR σ (atC σ q) 0 := ⟨⟨Nat.le_refl _, Nat.le_refl _⟩, ⟨Nat.le_refl _, Nat.le_refl _⟩, fun b _ => ⟨rfl, rfl, rfl, fun i hi' => by
  unfold atC
  rw [hi_wI, if_neg (fun z => (hi' z.1).1 z.2)]⟩⟩
theorem NR.nest {v : Int32} : NR σ (wI σ 0 13 v) 0 := ⟨⟨Nat.le_refl _, Nat.le_refl _⟩, ⟨Nat.le_refl _, Nat.le_refl _⟩, fun b _ => ⟨rfl, rfl, rfl, fun i hi' => by
  rw [hi_wI, if_neg (fun z => (hi' z.1).2 z.2)]⟩⟩
theorem NR.new {k n : Nat} (hn' : n ≤ 5) : NR σ (nw σ k n) 1 := by
  refine ⟨⟨Nat.le_succ _, Nat.le_refl _⟩, ⟨Nat.le_add_right _ _, by show hu σ + n ≤ hu σ + 5 * 1; omega⟩, fun b hb => ?_⟩
  have hne : ¬ b = σ.1 := fun z => by have : b < σ.1 := hb; omega
  exact ⟨if_neg hne, funext fun j => if_neg hne, funext fun j => if_neg hne, fun i _ => if_neg hne⟩
theorem NR.putI (h : NR σ τ m) {i : Nat} {v : Int32} (ha : hn σ ≤ a) : NR σ (wI τ a i v) m := by
  refine ⟨h.1, h.2.1, fun b hb => ?_⟩
  obtain ⟨a1, a2, a3, a4⟩ := h.2.2 b hb
  exact ⟨a1, a2, a3, fun j hj => by rw [hi_ne (show b ≠ a by omega)]; exact a4 j hj⟩
theorem hr_ne {σ : Hp} {a b i : Nat} {x : Option Nat} (h : b ≠ a) : hr (wR σ a i x) b = hr σ b := by
  funext k
  rw [hr_wR, if_neg (fun z => h z.1)]
theorem hr_eq {σ : Hp} {a i : Nat} {x : Option Nat} : hr (wR σ a i x) a i = x := by
  rw [hr_wR, if_pos ⟨rfl, rfl⟩]
theorem hr_ni {σ : Hp} {a i k : Nat} {x : Option Nat} (h : k ≠ i) : hr (wR σ a i x) a k = hr σ a k := by
  rw [hr_wR, if_neg (fun z => h z.2)]
theorem NR.putR (h : NR σ τ m) {i : Nat} {v : Option Nat} (ha : hn σ ≤ a) : NR σ (wR τ a i v) m := by
  refine ⟨h.1, h.2.1, fun b hb => ?_⟩
  obtain ⟨a1, a2, a3, a4⟩ := h.2.2 b hb
  exact ⟨a1, (hr_ne (show b ≠ a by omega)).trans a2, a3, a4⟩
theorem NR.sh (h : NR σ τ m) (hs : Sh σ) : Sh τ := by
  have h69 := hs.1
  refine ⟨Nat.le_trans h69 h.1.1, fun a ha => ?_, fun q hq => ?_⟩
  · rw [(h.2.2 a (by omega)).1]; exact hs.2.1 a ha
  · have hsp : ∀ q ∈ sp0, q.1 < 69 := by decide
    rw [(h.2.2 q.1 (by have := hsp q hq; omega)).2.1]; exact hs.2.2 q hq
theorem NR.nk (h : NR σ τ m) (hs : Sh σ) : NK σ τ := by
  refine ⟨h.1.1, fun b hb => ?_⟩
  obtain ⟨a1, a2, a3, a4⟩ := h.2.2 b hb
  refine ⟨a1, fun k3 k6 => ⟨funext fun i => a4 i (fun z => ?_), a2⟩⟩
  subst z
  rw [hs.2.1 0 (by decide)] at k3
  exact absurd k3 (by decide)
theorem NR.cs (h : NR σ τ m) (hc : CS σ c e p) {q : Nat} (hq : hi τ 0 11 = nI q) (hqe : q ≤ e) : CS τ c e q := by
  obtain ⟨hs, h1, h2, h3, h4, h5, h6⟩ := hc
  have h69 := hs.1
  refine ⟨h.sh hs, h1, h2, hqe, hq, ?_, fun r hr' => ?_⟩
  · rw [(h.2.2 0 (by omega)).2.2.2 12 (fun _ => by decide)]; exact h5
  · rw [(h.2.2 10 (by omega)).2.2.2 r (fun z => absurd z (by decide))]; exact h6 r hr'
theorem NR.i (h : NR σ τ m) (hs : Sh σ) {b i : Nat} (hb : b < 69) (hi' : b = 0 → i ≠ 11 ∧ i ≠ 13) : hi τ b i = hi σ b i := (h.2.2 b (by have := hs.1; omega)).2.2.2 i hi'
/-! constructors -/
theorem n4_init {v : Option Nat} (h : (a < hn σ) ∧ (((3 ≤ (hk σ a).1 ∧ (hk σ a).1 ≤ 5) ∧ hr σ a 1 = v) ∨ ((hk σ a).1 = 6 ∧ hr σ a 3 = v))) : f_X4_init (some a) v σ = some ((), σ) := by
  unfold f_X4_init ndc
  dsimp only
  rw [if_pos h, e_nn]
theorem n5_init {v w : Option Nat} (h : Ok σ a 3) : f_X5_init (some a) v w σ = some ((), wR (wR σ a 1 v) a 0 w) := by
  have e4 : f_X4_init (some a) v (wR σ a 1 v) = some ((), wR σ a 1 v) := n4_init (σ := wR σ a 1 v) ⟨h.1, Or.inl ⟨by show 3 ≤ (hk σ a).1 ∧ (hk σ a).1 ≤ 5; rw [h.2]; decide, hr_eq⟩⟩
  unfold f_X5_init
  rw [e_pR h, e_nn, e4, e_bnd, e_pR (show Ok (wR σ a 1 v) a 3 from h)]
theorem n6_init {v : Option Nat} {x : Int32} (h : Ok σ a 4) : f_X6_init (some a) v x σ = some ((), wI (wR σ a 1 v) a 0 x) := by
  have e4 : f_X4_init (some a) v (wR σ a 1 v) = some ((), wR σ a 1 v) := n4_init (σ := wR σ a 1 v) ⟨h.1, Or.inl ⟨by show 3 ≤ (hk σ a).1 ∧ (hk σ a).1 ≤ 5; rw [h.2]; decide, hr_eq⟩⟩
  unfold f_X6_init
  rw [e_pR h, e_nn, e4, e_bnd, e_pI (show Ok (wR σ a 1 v) a 4 from h)]
theorem n7_init {v : Option Nat} {x : Int32} (h : Ok σ a 5) : f_X7_init (some a) v x σ = some ((), wI (wR σ a 1 v) a 0 x) := by
  have e4 : f_X4_init (some a) v (wR σ a 1 v) = some ((), wR σ a 1 v) := n4_init (σ := wR σ a 1 v) ⟨h.1, Or.inl ⟨by show 3 ≤ (hk σ a).1 ∧ (hk σ a).1 ≤ 5; rw [h.2]; decide, hr_eq⟩⟩
  unfold f_X7_init
  rw [e_pR h, e_nn, e4, e_bnd, e_pI (show Ok (wR σ a 1 v) a 5 from h)]
theorem n8_init {v w z : Option Nat} {x : Int32} (h : Ok σ a 6) (hx : okv 3 x = true) : f_X8_init (some a) v x w z σ = some ((), wR (wR (wI (wR σ a 3 v) a 0 x) a 1 w) a 2 z) := by
  have e1 : pI 3 6 0 (wR σ a 3 v) (some a) x (fun σ => pR 6 1 σ (some a) w fun σ => pR 6 2 σ (some a) z fun σ => some ((), σ)) = (fun σ => pR 6 1 σ (some a) w fun σ => pR 6 2 σ (some a) z fun σ => some ((), σ)) (wI (wR σ a 3 v) a 0 x) := by
    unfold pI
    rw [e_ob (show Ok (wR σ a 3 v) a 6 from h), if_pos hx]
  have e4 : f_X4_init (some a) v (wR σ a 3 v) = some ((), wR σ a 3 v) := n4_init (σ := wR σ a 3 v) ⟨h.1, Or.inr ⟨by show (hk σ a).1 = 6; rw [h.2], hr_eq⟩⟩
  unfold f_X8_init
  rw [e_pR h, e_nn, e4, e_bnd, e1]
  dsimp only
  rw [e_pR (show Ok (wI (wR σ a 3 v) a 0 x) a 6 from h), e_pR (show Ok (wR (wI (wR σ a 3 v) a 0 x) a 1 w) a 6 from h)]
/-! what nodes hold -/
theorem nk_at (h : NK σ τ) (ho : Ok σ a k) (h3 : 3 ≤ k) (h6 : k ≤ 6) : Ok τ a k ∧ hi τ a = hi σ a ∧ hr τ a = hr σ a := by
  obtain ⟨g1, g2⟩ := h.2 a ho.1
  have := g2 (by rw [ho.2]; exact h3) (by rw [ho.2]; exact h6)
  exact ⟨⟨Nat.lt_of_lt_of_le ho.1 h.1, by rw [g1]; exact ho.2⟩, this.1, this.2⟩
theorem fv_3 {n : Nat} (h : Ok τ a 3) : f_value (n + 1) (some a) τ = fb_X5_value (f_value n) (some a) τ := by
  show (if a < hn τ then (if (hk τ a).1 = 3 then _ else _) else none) = _
  rw [if_pos h.1, if_pos h.2]
theorem fv_4 {n : Nat} (h : Ok τ a 4) : f_value (n + 1) (some a) τ = fb_X6_value (f_value n) (some a) τ := by
  show (if a < hn τ then (if (hk τ a).1 = 3 then _ else if (hk τ a).1 = 4 then _ else _) else none) = _
  rw [if_pos h.1, h.2, if_neg (by decide), if_pos rfl]
theorem fv_5 {n : Nat} (h : Ok τ a 5) : f_value (n + 1) (some a) τ = fb_X7_value (f_value n) (some a) τ := by
  show (if a < hn τ then (if (hk τ a).1 = 3 then _ else if (hk τ a).1 = 4 then _ else if (hk τ a).1 = 5 then _ else _) else none) = _
  rw [if_pos h.1, h.2, if_neg (by decide), if_neg (by decide), if_pos rfl]
theorem fv_6 {n : Nat} (h : Ok τ a 6) : f_value (n + 1) (some a) τ = fb_X8_value (f_value n) (some a) τ := by
  show (if a < hn τ then (if (hk τ a).1 = 3 then _ else if (hk τ a).1 = 4 then _ else if (hk τ a).1 = 5 then _ else if (hk τ a).1 = 6 then _ else none) else none) = _
  rw [if_pos h.1, h.2, if_neg (by decide), if_neg (by decide), if_neg (by decide), if_pos rfl]
theorem tr_number {v : Int32} (h : Ok σ a 4) (hv : hi σ a 0 = v) : TR σ 1 a (fun _ => v) := by
  refine ⟨h.1, fun τ w nk as d' hd => ?_⟩
  obtain ⟨d', rfl⟩ : ∃ n, d' = n + 1 := ⟨d' - 1, by omega⟩
  obtain ⟨o, g1, g2⟩ := nk_at nk h (by decide) (by decide)
  rw [fv_4 o]
  unfold fb_X6_value
  rw [e_gI o, g1, hv]
theorem tr_less (h : Ok σ a 3) (hb : hr σ a 0 = some b) (ht : TR σ d b E) : TR σ (d + 1) a (fun v => - E v) := by
  refine ⟨h.1, fun τ w nk as d' hd => ?_⟩
  obtain ⟨d', rfl⟩ : ∃ n, d' = n + 1 := ⟨d' - 1, by omega⟩
  obtain ⟨o, g1, g2⟩ := nk_at nk h (by decide) (by decide)
  rw [fv_3 o]
  unfold fb_X5_value
  rw [e_gR o, g2, hb, ht.2 τ w nk as d' (by omega), e_bnd]
theorem tr_act {s : Int32} {l r : Nat} (h : Ok σ a 6) (h1 : hr σ a 1 = some l) (h2 : hr σ a 2 = some r) (h0 : hi σ a 0 = s) (hl' : TR σ d l E) (hr' : TR σ d r F) : TR σ (d + 1) a (opE s E F) := by
  refine ⟨h.1, fun τ w nk as d' hd => ?_⟩
  obtain ⟨d', rfl⟩ : ∃ n, d' = n + 1 := ⟨d' - 1, by omega⟩
  obtain ⟨o, g1, g2⟩ := nk_at nk h (by decide) (by decide)
  rw [fv_6 o]
  unfold fb_X8_value
  rw [e_gR o, g2, h1, hl'.2 τ w nk as d' (by omega), e_bnd, e_gR o, g2, h2, hr'.2 τ w nk as d' (by omega), e_bnd, e_gI o, g1, h0]
  unfold opE act idv
  by_cases s1 : s = 42
  · rw [if_pos s1, if_pos s1]
  rw [if_neg s1, if_neg s1]
  by_cases s2 : s = 43
  · rw [if_pos s2, if_pos s2]
  rw [if_neg s2, if_neg s2]
  by_cases s3 : s = 45
  · rw [if_pos s3, if_pos s3]
  rw [if_neg s3, if_neg s3]
  by_cases s4 : s = 47
  · rw [if_pos s4, if_pos s4]
    by_cases z : F w = 0
    · rw [if_pos z, if_pos z]
    · simp only [z, if_false]
  rw [if_neg s4, if_neg s4]
  by_cases s5 : s = 60
  · rw [if_pos s5, if_pos s5]
    by_cases z : F w ≤ E w
    · rw [if_pos z, if_pos z]
    · rw [if_neg z, if_neg z]
  rw [if_neg s5, if_neg s5]
  by_cases s6 : s = 62
  · rw [if_pos s6, if_pos s6]
    by_cases z : E w ≤ F w
    · rw [if_pos z, if_pos z]
    · rw [if_neg z, if_neg z]
  rw [if_neg s6, if_neg s6]
  by_cases z : E w = F w
  · rw [if_pos z, if_pos z]
  · rw [if_neg z, if_neg z]
theorem tr_sign {x : Int32} {k : Nat} (h : Ok σ a 5) (h1 : hr σ a 1 = some 0) (h0 : hi σ a 0 = x) (hk' : ltrI x = some k) : TR σ 1 a (fun v => v k) := by
  refine ⟨h.1, fun τ w nk as d' hd => ?_⟩
  obtain ⟨d', rfl⟩ : ∃ n, d' = n + 1 := ⟨d' - 1, by omega⟩
  obtain ⟨o, g1, g2⟩ := nk_at nk h (by decide) (by decide)
  obtain ⟨hs, a0, s, u, r, b1, b2', b3, b4, b5, r8, b6, a4, a1, a2, a3, a5, a6⟩ := as
  have c0 := so_0 hs
  have r1 : hr τ a 1 = some 0 := by rw [g2]; exact h1
  have o8 := so_8 hs
  have o7 := so_7 hs
  have o9 := so_9 hs
  have ib : ∀ {t : Nat}, (hk τ t).2 = 8 → inb (nI r) (hk τ t).2 := fun ht => by rw [ht, inb_nI (by omega)]; exact r8
  rw [fv_5 o]
  unfold fb_X7_value
  rw [e_gI o, g1, h0]
  unfold ltrI at hk'
  by_cases x0 : x = 104
  · subst x0
    rw [if_pos rfl] at hk' ⊢
    cases hk'
    rw [e_gR o, r1, e_gI c0, a0]
  rw [if_neg x0] at hk'
  by_cases x1 : x = 116
  · subst x1
    rw [if_pos rfl] at hk'
    cases hk'
    repeat rw [if_neg (by decide)]
    rw [if_pos rfl, e_gR o, r1, e_gR c0, b1, e_gR b2', b3, e_gR o, r1, e_gI c0, b6, e_lI b4 (ib b5), ix_nI (by omega), a1]
  rw [if_neg x1] at hk'
  by_cases x2 : x = 119
  · subst x2
    rw [if_pos rfl] at hk'
    cases hk'
    repeat rw [if_neg (by decide)]
    rw [if_pos rfl, e_gR o, r1, e_gR c0, sp_0_3 hs, e_gR o, r1, e_gI c0, b6, e_lI o8 (ib (sl_8 hs)), ix_nI (by omega), a2]
  rw [if_neg x2] at hk'
  by_cases x3 : x = 109
  · subst x3
    rw [if_pos rfl] at hk'
    cases hk'
    repeat rw [if_neg (by decide)]
    rw [if_pos rfl, e_gR o, r1, e_gR c0, sp_0_2 hs, e_gR o, r1, e_gI c0, b6, e_lI o7 (ib (sl_7 hs)), ix_nI (by omega), a3]
  rw [if_neg x3] at hk'
  by_cases x4 : x = 105
  · subst x4
    rw [if_pos rfl] at hk'
    cases hk'
    repeat rw [if_neg (by decide)]
    rw [if_pos rfl, e_gR o, r1, e_gI c0, b6, ← a4]
  rw [if_neg x4] at hk'
  by_cases x5 : x = 110
  · subst x5
    rw [if_pos rfl] at hk'
    cases hk'
    repeat rw [if_neg (by decide)]
    rw [if_pos rfl, e_gR o, r1, e_gR c0, b1, e_gI b2', a5]
    rfl
  rw [if_neg x5] at hk'
  by_cases x6 : x = 99
  · subst x6
    rw [if_pos rfl] at hk'
    cases hk'
    repeat rw [if_neg (by decide)]
    rw [e_gR o, r1, e_gR c0, sp_0_4 hs, e_gR o, r1, e_gI c0, b6, e_lI o9 (ib (sl_9 hs)), ix_nI (by omega), e_bc, e_bnd, a6]
  rw [if_neg x6] at hk'
  cases hk'
end nodes
