/-! PURE 6: what class and reference hold -/
/-- a rule, as what it makes of h, t, w, m, i, n, c -/
abbrev RE : Type := (Nat → Int32) → Int32
/-- riders, hours, beats; most, width, can by rider; the rule -/
abbrev Pk : Type := Nat × Nat × Nat × (Nat → Nat) × (Nat → Nat) × (Nat → Nat) × Option RE
def Pk.n (P : Pk) : Nat := P.1
def Pk.hrs (P : Pk) : Nat := P.2.1
def Pk.beats (P : Pk) : Nat := P.2.2.1
def Pk.most (P : Pk) : Nat → Nat := P.2.2.2.1
def Pk.width (P : Pk) : Nat → Nat := P.2.2.2.2.1
def Pk.can (P : Pk) : Nat → Nat := P.2.2.2.2.2.1
def Pk.rule (P : Pk) : Option RE := P.2.2.2.2.2.2
/-- a horse: rota, tired; ill as a set; night, gaps, ridden -/
abbrev HS : Type := (Nat → Int32) × (Nat → Int32) × Nat × Int32 × Int32 × Int32
def HS.rota (a : HS) : Nat → Int32 := a.1
def HS.tired (a : HS) : Nat → Int32 := a.2.1
def HS.ill (a : HS) : Nat := a.2.2.1
def HS.night (a : HS) : Int32 := a.2.2.2.1
def HS.gaps (a : HS) : Int32 := a.2.2.2.2.1
def HS.rid (a : HS) : Int32 := a.2.2.2.2.2
def POK (P : Pk) : Prop := P.n ≤ 8 ∧ (1 ≤ P.hrs ∧ P.hrs ≤ 8) ∧ P.beats ≤ 9 ∧ ∀ r, P.most r ≤ 4 ∧ P.width r ≤ 9 ∧ P.can r < 256
/-- none, or a rider's number -/
def okR (n : Nat) (x : Int32) : Prop := x = -1 ∨ ∃ r, r < n ∧ x = nI r
def HOK (n : Nat) (a : HS) : Prop := a.ill < 2 ^ n ∧ ∀ h, h < 8 → okR n (a.rota h)
/-- an object of Horse that holds a -/
def CH (σ : Hp) (s : Nat) (a : HS) : Prop :=
  (Ok σ s 1 ∧ hr σ s 0 = some (s + 1) ∧ hr σ s 1 = some (s + 2) ∧ Ok σ (s + 1) 100 ∧ (hk σ (s + 1)).2 = 8 ∧ Ok σ (s + 2) 100 ∧ (hk σ (s + 2)).2 = 8) ∧
  (∀ h, h < 8 → hi σ (s + 1) h = a.rota h) ∧ (∀ r, r < 8 → hi σ (s + 2) r = a.tired r) ∧ hi σ s 2 = nI a.ill ∧ hi σ s 3 = a.night ∧ hi σ s 4 = a.gaps ∧ hi σ s 5 = a.rid
/-- a row of the reference's that holds a from k on -/
def MH (σ : Hp) (t k : Nat) (a : HS) : Prop :=
  (∀ h, h < 8 → hi σ t (k + h) = a.rota h) ∧ (∀ r, r < 8 → hi σ t (k + 8 + r) = a.tired r) ∧ (∀ r, r < 8 → hi σ t (k + 16 + r) = if a.ill.testBit r then 1 else 0) ∧ hi σ t (k + 24) = a.night ∧ hi σ t (k + 25) = a.gaps ∧ hi σ t (k + 26) = a.rid
/-- cells are made, those of nodes are kept -/
def NK (σ τ : Hp) : Prop := hn σ ≤ hn τ ∧ ∀ b, b < hn σ → hk τ b = hk σ b ∧ (3 ≤ (hk σ b).1 → (hk σ b).1 ≤ 6 → hi τ b = hi σ b ∧ hr τ b = hr σ b)
/-- what is asked, as the class holds it -/
def Asks (τ : Hp) (v : Nat → Int32) : Prop := Sh τ ∧ hi τ 0 20 = v 0 ∧ ∃ s u r, hr τ 0 18 = some s ∧ Ok τ s 1 ∧ hr τ s 1 = some u ∧ Ok τ u 100 ∧ (hk τ u).2 = 8 ∧ r < 8 ∧ hi τ 0 19 = nI r ∧ v 4 = nI r ∧ hi τ u r = v 1 ∧ hi τ 8 r = v 2 ∧ hi τ 7 r = v 3 ∧ irm (hi τ s 3) 7 = v 5 ∧ bcI (hi τ 9 r) = v 6
/-- a node that holds a rule, no deeper than d -/
def TR (σ : Hp) (d a : Nat) (E : RE) : Prop := a < hn σ ∧ ∀ τ v, NK σ τ → Asks τ v → ∀ d', d ≤ d' → f_value d' (some a) τ = some (E v, τ)
def RC (σ : Hp) (o : Option RE) : Prop := match o with
  | none => hr σ 0 21 = none
  | some E => ∃ a, hr σ 0 21 = some a ∧ TR σ 60 a E
/-- the class holds P -/
def CP (σ : Hp) (P : Pk) : Prop := hi σ 0 5 = nI P.n ∧ hi σ 0 6 = nI P.hrs ∧ hi σ 0 7 = nI P.beats ∧ (∀ r, r < P.n → hi σ 7 r = nI (P.most r) ∧ hi σ 8 r = nI (P.width r) ∧ hi σ 9 r = nI (P.can r)) ∧ RC σ P.rule
/-- what is asked of rider and hour -/
def askV (P : Pk) (a : HS) (r h : Nat) : Nat → Int32
  | 0 => nI h
  | 1 => a.tired r
  | 2 => nI (P.width r)
  | 3 => nI (P.most r)
  | 4 => nI r
  | 5 => irm a.night 7
  | _ => nI (pop (P.can r))
def hardI (P : Pk) (a : HS) (r h : Nat) : Int32 := imax 0 (imin 999 (match P.rule with
  | none => a.tired r + nI (P.width r) + (if h ≤ 5 then 0 else 9)
  | some E => E (askV P a r h)))
section state
variable {σ τ υ : Hp} {P : Pk} {a : HS} {D F G : List Nat} {s t k : Nat}
theorem NK.refl : NK σ σ := ⟨Nat.le_refl _, fun _ _ => ⟨rfl, fun _ _ => ⟨rfl, rfl⟩⟩⟩
theorem NK.trans (h : NK σ τ) (g : NK τ υ) : NK σ υ := by
  refine ⟨Nat.le_trans h.1 g.1, fun b hb => ?_⟩
  obtain ⟨h1, h2⟩ := h.2 b hb
  obtain ⟨g1, g2⟩ := g.2 b (Nat.lt_of_lt_of_le hb h.1)
  refine ⟨g1.trans h1, fun k3 k6 => ?_⟩
  have := g2 (by rw [h1]; exact k3) (by rw [h1]; exact k6)
  exact ⟨this.1.trans (h2 k3 k6).1, this.2.trans (h2 k3 k6).2⟩
theorem TR.nk {d b : Nat} {E : RE} (h : TR σ d b E) (g : NK σ τ) : TR τ d b E := ⟨Nat.lt_of_lt_of_le h.1 g.1, fun υ v hk' ha => h.2 υ v (g.trans hk') ha⟩
theorem TR.up {d d' b : Nat} {E : RE} (h : TR σ d b E) (g : d ≤ d') : TR σ d' b E := ⟨h.1, fun υ v hk' ha e he => h.2 υ v hk' ha e (Nat.le_trans g he)⟩
theorem sk_small : ∀ a, a < 69 → (sk0.getD a (0, 0)).1 ≤ 2 ∨ 100 ≤ (sk0.getD a (0, 0)).1 := by decide
/-- frames whose cells are all among the first keep the nodes -/
theorem Fr.nk (h : Fr D F G σ τ) (hs : Sh σ) (hD : D.all (fun x => decide (x < 69)) = true) : NK σ τ := by
  refine ⟨by rw [h.1]; exact Nat.le_refl _, fun b _ => ⟨by rw [h.k], fun k3 k6 => ?_⟩⟩
  by_cases hb : b < 69
  · have := sk_small b hb
    rw [hs.2.1 b hb] at k3 k6
    omega
  · exact ⟨funext fun i => h.i (dn_big hD (by omega)), funext fun i => h.r (dn_nil (D := D) (dn_big hD (by omega)))⟩
theorem RC.nk {o : Option RE} (h : RC σ o) (g : NK σ τ) (e : hr τ 0 21 = hr σ 0 21) : RC τ o := by
  cases o with
  | none => exact e.trans h
  | some E =>
    obtain ⟨a, h1, h2⟩ := h
    exact ⟨a, e.trans h1, h2.nk g⟩
theorem CP.fr (h : CP σ P) (hs : Sh σ) (f : Fr D F G σ τ) (hD : D.all (fun x => decide (x < 69)) = true) (h0 : (dn D F G 0 5 && dn D F G 0 6 && dn D F G 0 7 && dn D F G 0 21 && !D.contains 7 && !D.contains 8 && !D.contains 9) = true) : CP τ P := by
  simp only [Bool.and_eq_true, Bool.not_eq_true'] at h0
  obtain ⟨⟨⟨⟨⟨⟨h5, h6⟩, h7⟩, h21⟩, d7⟩, d8⟩, d9⟩ := h0
  refine ⟨(f.i h5).trans h.1, (f.i h6).trans h.2.1, (f.i h7).trans h.2.2.1, fun r hr' => ?_, h.2.2.2.2.nk (f.nk hs hD) (f.r (dn_nil h21))⟩
  rw [f.i (dn_out d7 (by decide) (by decide)), f.i (dn_out d8 (by decide) (by decide)), f.i (dn_out d9 (by decide) (by decide))]
  exact h.2.2.2.1 r hr'
theorem CH.fr (h : CH σ s a) (f : Fr D F G σ τ) (h0 : s ≠ 0) (hs : s < 35 ∨ 37 < s) (d0 : D.contains s = false) (d1 : D.contains (s + 1) = false) (d2 : D.contains (s + 2) = false) : CH τ s a := by
  obtain ⟨⟨q1, q2, q3, q4, q5, q6, q7⟩, q8, q9, q10, q11, q12, q13⟩ := h
  have e0 : ∀ i, dn D F G s i = true := fun i => dn_out d0 h0 (by omega)
  have e1 : ∀ i, dn D F G (s + 1) i = true := fun i => dn_out d1 (by omega) (by omega)
  have e2 : ∀ i, dn D F G (s + 2) i = true := fun i => dn_out d2 (by omega) (by omega)
  refine ⟨⟨f.ok q1, (f.r (dn_nil (e0 0))).trans q2, (f.r (dn_nil (e0 1))).trans q3, f.ok q4, by rw [f.k]; exact q5, f.ok q6, by rw [f.k]; exact q7⟩, fun h hh => (f.i (e1 h)).trans (q8 h hh), fun r hr' => (f.i (e2 r)).trans (q9 r hr'), (f.i (e0 2)).trans q10, (f.i (e0 3)).trans q11, (f.i (e0 4)).trans q12, (f.i (e0 5)).trans q13⟩
theorem MH.fr (h : MH σ t k a) (f : Fr D F G σ τ) (h0 : t ≠ 0) (h37 : t ≠ 37) (d0 : D.contains t = false) : MH τ t k a := by
  have e0 : ∀ i, dn D F G t i = true := fun i => dn_out d0 h0 h37
  obtain ⟨q1, q2, q3, q4, q5, q6⟩ := h
  exact ⟨fun i hi' => (f.i (e0 _)).trans (q1 i hi'), fun i hi' => (f.i (e0 _)).trans (q2 i hi'), fun i hi' => (f.i (e0 _)).trans (q3 i hi'), (f.i (e0 _)).trans q4, (f.i (e0 _)).trans q5, (f.i (e0 _)).trans q6⟩
theorem hard_nI (P : Pk) (a : HS) (r h : Nat) : ∃ k, k ≤ 999 ∧ hardI P a r h = nI k := by
  unfold hardI
  rw [n_999]
  exact clamp_nI _ (by decide)
end state
