/-! PURE 16: what class and reference hold, as one; what a question may write -/
def CX (σ : Hp) (P : Pk) (a : HS) : Prop := Sh σ ∧ CP σ P ∧ POK P ∧ CH σ 1 a ∧ HOK P.n a
def MX (σ : Hp) (P : Pk) (a : HS) : Prop := Sh σ ∧ MP σ P ∧ POK P ∧ MH σ 38 0 a ∧ HOK P.n a
def okD (D : List Nat) : Bool := D.all (fun x => decide (x < 69))
def okS (F G : List Nat) : Bool := sp0.all (fun q => dn [] F G q.1 q.2.1)
def okCX (D F G : List Nat) : Bool := okD D && okS F G && (dn D F G 0 5 && dn D F G 0 6 && dn D F G 0 7 && dn D F G 0 21 && !D.contains 7 && !D.contains 8 && !D.contains 9) && !D.contains 1 && !D.contains 2 && !D.contains 3
def okMX (D F G : List Nat) : Bool := okS F G && (dn D F G 37 3 && dn D F G 37 1 && dn D F G 37 2 && !D.contains 39 && !D.contains 40 && !D.contains 41 && (dn D F G 37 18 && dn D F G 37 20 && !D.contains 45 && !D.contains 46)) && !D.contains 38
section ctx
variable {σ τ : Hp} {P : Pk} {a : HS} {D F G : List Nat}
theorem CX.fr (x : CX σ P a) (f : Fr D F G σ τ) (h : okCX D F G = true) : CX τ P a := by
  unfold okCX at h
  simp only [Bool.and_eq_true, Bool.not_eq_true'] at h
  obtain ⟨⟨⟨⟨⟨h1, h2⟩, h3⟩, d1⟩, d2⟩, d3⟩ := h
  exact ⟨f.sh x.1 h2, x.2.1.fr x.1 f h1 (by simp only [Bool.and_eq_true, Bool.not_eq_true']; exact h3), x.2.2.1, x.2.2.2.1.fr f (by decide) (Or.inl (by decide)) d1 d2 d3, x.2.2.2.2⟩
theorem MX.fr (x : MX σ P a) (f : Fr D F G σ τ) (h : okMX D F G = true) : MX τ P a := by
  unfold okMX at h
  simp only [Bool.and_eq_true, Bool.not_eq_true'] at h
  obtain ⟨⟨h2, h3⟩, d1⟩ := h
  exact ⟨f.sh x.1 h2, x.2.1.fr f (by simp only [Bool.and_eq_true, Bool.not_eq_true']; exact h3), x.2.2.1, x.2.2.2.1.fr f (by decide) (by decide) d1, x.2.2.2.2⟩
theorem CX.s (x : CX σ P a) : Sh σ := x.1
theorem CX.n (x : CX σ P a) : hi σ 0 5 = nI P.n := x.2.1.1
theorem CX.h (x : CX σ P a) : hi σ 0 6 = nI P.hrs := x.2.1.2.1
theorem CX.b (x : CX σ P a) : hi σ 0 7 = nI P.beats := x.2.1.2.2.1
theorem CX.mo (x : CX σ P a) : ∀ r, r < P.n → hi σ 7 r = nI (P.most r) := fun r h => (x.2.1.2.2.2.1 r h).1
theorem CX.wi (x : CX σ P a) : ∀ r, r < P.n → hi σ 8 r = nI (P.width r) := fun r h => (x.2.1.2.2.2.1 r h).2.1
theorem CX.ca (x : CX σ P a) : ∀ r, r < P.n → hi σ 9 r = nI (P.can r) := fun r h => (x.2.1.2.2.2.1 r h).2.2
theorem CX.n8 (x : CX σ P a) : P.n ≤ 8 := x.2.2.1.1
theorem CX.h1 (x : CX σ P a) : 1 ≤ P.hrs := x.2.2.1.2.1.1
theorem CX.h8 (x : CX σ P a) : P.hrs ≤ 8 := x.2.2.1.2.1.2
theorem CX.b9 (x : CX σ P a) : P.beats ≤ 9 := x.2.2.1.2.2.1
theorem CX.m4 (x : CX σ P a) (r : Nat) : P.most r ≤ 4 := (x.2.2.1.2.2.2 r).1
theorem CX.w9 (x : CX σ P a) (r : Nat) : P.width r ≤ 9 := (x.2.2.1.2.2.2 r).2.1
theorem CX.c8 (x : CX σ P a) (r : Nat) : P.can r < 256 := (x.2.2.1.2.2.2 r).2.2
theorem CX.ro (x : CX σ P a) : ∀ h, h < 8 → hi σ 2 h = a.rota h := x.2.2.2.1.2.1
theorem CX.ti (x : CX σ P a) : ∀ r, r < 8 → hi σ 3 r = a.tired r := x.2.2.2.1.2.2.1
theorem CX.il (x : CX σ P a) : hi σ 1 2 = nI a.ill := x.2.2.2.1.2.2.2.1
theorem CX.ni (x : CX σ P a) : hi σ 1 3 = a.night := x.2.2.2.1.2.2.2.2.1
theorem CX.ga (x : CX σ P a) : hi σ 1 4 = a.gaps := x.2.2.2.1.2.2.2.2.2.1
theorem CX.ri (x : CX σ P a) : hi σ 1 5 = a.rid := x.2.2.2.1.2.2.2.2.2.2
theorem CX.i8 (x : CX σ P a) : a.ill < 256 := ill_lt x.n8 x.2.2.2.2
theorem CX.ok (x : CX σ P a) : HOK P.n a := x.2.2.2.2
theorem CX.pk (x : CX σ P a) : POK P := x.2.2.1
theorem MX.s (x : MX σ P a) : Sh σ := x.1
theorem MX.n (x : MX σ P a) : hi σ 37 3 = nI P.n := x.2.1.1
theorem MX.h (x : MX σ P a) : hi σ 37 1 = nI P.hrs := x.2.1.2.1
theorem MX.b (x : MX σ P a) : hi σ 37 2 = nI P.beats := x.2.1.2.2.1
theorem MX.mo (x : MX σ P a) : ∀ r, r < P.n → hi σ 39 r = nI (P.most r) := fun r h => (x.2.1.2.2.2.1 r h).1
theorem MX.wi (x : MX σ P a) : ∀ r, r < P.n → hi σ 40 r = nI (P.width r) := fun r h => (x.2.1.2.2.2.1 r h).2.1
theorem MX.ca (x : MX σ P a) : ∀ r, r < P.n → hi σ 41 r = nI (P.can r) := fun r h => (x.2.1.2.2.2.1 r h).2.2
theorem MX.n8 (x : MX σ P a) : P.n ≤ 8 := x.2.2.1.1
theorem MX.h1 (x : MX σ P a) : 1 ≤ P.hrs := x.2.2.1.2.1.1
theorem MX.h8 (x : MX σ P a) : P.hrs ≤ 8 := x.2.2.1.2.1.2
theorem MX.b9 (x : MX σ P a) : P.beats ≤ 9 := x.2.2.1.2.2.1
theorem MX.m4 (x : MX σ P a) (r : Nat) : P.most r ≤ 4 := (x.2.2.1.2.2.2 r).1
theorem MX.w9 (x : MX σ P a) (r : Nat) : P.width r ≤ 9 := (x.2.2.1.2.2.2 r).2.1
theorem MX.c8 (x : MX σ P a) (r : Nat) : P.can r < 256 := (x.2.2.1.2.2.2 r).2.2
theorem MX.ro (x : MX σ P a) : ∀ h, h < 8 → hi σ 38 h = a.rota h := fun h hh => by have := x.2.2.2.1.1 h hh; rw [Nat.zero_add] at this; exact this
theorem MX.ti (x : MX σ P a) : ∀ r, r < 8 → hi σ 38 (8 + r) = a.tired r := fun r h => by have := x.2.2.2.1.2.1 r h; rw [Nat.zero_add] at this; exact this
theorem MX.il (x : MX σ P a) : ∀ r, r < 8 → hi σ 38 (16 + r) = if a.ill.testBit r then 1 else 0 := fun r h => by have := x.2.2.2.1.2.2.1 r h; rw [Nat.zero_add] at this; exact this
theorem MX.ni (x : MX σ P a) : hi σ 38 24 = a.night := x.2.2.2.1.2.2.2.1
theorem MX.ga (x : MX σ P a) : hi σ 38 25 = a.gaps := x.2.2.2.1.2.2.2.2.1
theorem MX.ri (x : MX σ P a) : hi σ 38 26 = a.rid := x.2.2.2.1.2.2.2.2.2
theorem MX.i8 (x : MX σ P a) : a.ill < 256 := ill_lt x.n8 x.2.2.2.2
theorem MX.ok (x : MX σ P a) : HOK P.n a := x.2.2.2.2
theorem MX.pk (x : MX σ P a) : POK P := x.2.2.1
/-- the same without the horse -/
def CY (σ : Hp) (P : Pk) : Prop := Sh σ ∧ CP σ P ∧ POK P
def MY (σ : Hp) (P : Pk) : Prop := Sh σ ∧ MP σ P ∧ POK P
def okCY (D F G : List Nat) : Bool := okD D && okS F G && (dn D F G 0 5 && dn D F G 0 6 && dn D F G 0 7 && dn D F G 0 21 && !D.contains 7 && !D.contains 8 && !D.contains 9)
def okMY (D F G : List Nat) : Bool := okS F G && (dn D F G 37 3 && dn D F G 37 1 && dn D F G 37 2 && !D.contains 39 && !D.contains 40 && !D.contains 41 && (dn D F G 37 18 && dn D F G 37 20 && !D.contains 45 && !D.contains 46))
theorem CY.fr (x : CY σ P) (f : Fr D F G σ τ) (h : okCY D F G = true) : CY τ P := by
  unfold okCY at h
  simp only [Bool.and_eq_true, Bool.not_eq_true'] at h
  obtain ⟨⟨h1, h2⟩, h3⟩ := h
  exact ⟨f.sh x.1 h2, x.2.1.fr x.1 f h1 (by simp only [Bool.and_eq_true, Bool.not_eq_true']; exact h3), x.2.2⟩
theorem MY.fr (x : MY σ P) (f : Fr D F G σ τ) (h : okMY D F G = true) : MY τ P := by
  unfold okMY at h
  simp only [Bool.and_eq_true, Bool.not_eq_true'] at h
  obtain ⟨h2, h3⟩ := h
  exact ⟨f.sh x.1 h2, x.2.1.fr f (by simp only [Bool.and_eq_true, Bool.not_eq_true']; exact h3), x.2.2⟩
theorem CX.y (x : CX σ P a) : CY σ P := ⟨x.1, x.2.1, x.2.2.1⟩
theorem MX.y (x : MX σ P a) : MY σ P := ⟨x.1, x.2.1, x.2.2.1⟩
theorem CY.s (x : CY σ P) : Sh σ := x.1
theorem CY.n (x : CY σ P) : hi σ 0 5 = nI P.n := x.2.1.1
theorem CY.h (x : CY σ P) : hi σ 0 6 = nI P.hrs := x.2.1.2.1
theorem CY.b (x : CY σ P) : hi σ 0 7 = nI P.beats := x.2.1.2.2.1
theorem CY.mo (x : CY σ P) : ∀ r, r < P.n → hi σ 7 r = nI (P.most r) := fun r h => (x.2.1.2.2.2.1 r h).1
theorem CY.wi (x : CY σ P) : ∀ r, r < P.n → hi σ 8 r = nI (P.width r) := fun r h => (x.2.1.2.2.2.1 r h).2.1
theorem CY.ca (x : CY σ P) : ∀ r, r < P.n → hi σ 9 r = nI (P.can r) := fun r h => (x.2.1.2.2.2.1 r h).2.2
theorem CY.n8 (x : CY σ P) : P.n ≤ 8 := x.2.2.1
theorem CY.h1 (x : CY σ P) : 1 ≤ P.hrs := x.2.2.2.1.1
theorem CY.h8 (x : CY σ P) : P.hrs ≤ 8 := x.2.2.2.1.2
theorem CY.b9 (x : CY σ P) : P.beats ≤ 9 := x.2.2.2.2.1
theorem CY.m4 (x : CY σ P) (r : Nat) : P.most r ≤ 4 := (x.2.2.2.2.2 r).1
theorem CY.w9 (x : CY σ P) (r : Nat) : P.width r ≤ 9 := (x.2.2.2.2.2 r).2.1
theorem CY.c8 (x : CY σ P) (r : Nat) : P.can r < 256 := (x.2.2.2.2.2 r).2.2
theorem CY.pk (x : CY σ P) : POK P := x.2.2
theorem MY.s (x : MY σ P) : Sh σ := x.1
theorem MY.n (x : MY σ P) : hi σ 37 3 = nI P.n := x.2.1.1
theorem MY.h (x : MY σ P) : hi σ 37 1 = nI P.hrs := x.2.1.2.1
theorem MY.b (x : MY σ P) : hi σ 37 2 = nI P.beats := x.2.1.2.2.1
theorem MY.mo (x : MY σ P) : ∀ r, r < P.n → hi σ 39 r = nI (P.most r) := fun r h => (x.2.1.2.2.2.1 r h).1
theorem MY.wi (x : MY σ P) : ∀ r, r < P.n → hi σ 40 r = nI (P.width r) := fun r h => (x.2.1.2.2.2.1 r h).2.1
theorem MY.ca (x : MY σ P) : ∀ r, r < P.n → hi σ 41 r = nI (P.can r) := fun r h => (x.2.1.2.2.2.1 r h).2.2
theorem MY.n8 (x : MY σ P) : P.n ≤ 8 := x.2.2.1
theorem MY.h1 (x : MY σ P) : 1 ≤ P.hrs := x.2.2.2.1.1
theorem MY.h8 (x : MY σ P) : P.hrs ≤ 8 := x.2.2.2.1.2
theorem MY.b9 (x : MY σ P) : P.beats ≤ 9 := x.2.2.2.2.1
theorem MY.m4 (x : MY σ P) (r : Nat) : P.most r ≤ 4 := (x.2.2.2.2.2 r).1
theorem MY.w9 (x : MY σ P) (r : Nat) : P.width r ≤ 9 := (x.2.2.2.2.2 r).2.1
theorem MY.c8 (x : MY σ P) (r : Nat) : P.can r < 256 := (x.2.2.2.2.2 r).2.2
theorem MY.pk (x : MY σ P) : POK P := x.2.2
theorem sw_I {b i : Nat} {v : Int32} (h : Sh σ) : Sh (wI σ b i v) := h
theorem sw_L {b i : Nat} {v : Int64} (h : Sh σ) : Sh (wL σ b i v) := h
theorem sw_cp {b i c j n : Nat} (h : Sh σ) : Sh (cpI σ b i c j n) := h
theorem sw_18 {v : Option Nat} (h : Sh σ) : Sh (wR σ 0 18 v) := Fr.sh (D := []) (F := [18]) (G := []) (Fr.refl.putR rfl) h rfl
theorem sw_21 {v : Option Nat} (h : Sh σ) : Sh (wR σ 0 21 v) := Fr.sh (D := []) (F := [21]) (G := []) (Fr.refl.putR rfl) h rfl
theorem sw_22 {v : Option Nat} (h : Sh σ) : Sh (wR σ 0 22 v) := Fr.sh (D := []) (F := [22]) (G := []) (Fr.refl.putR rfl) h rfl
theorem sw_m12 {v : Option Nat} (h : Sh σ) : Sh (wR σ 37 12 v) := Fr.sh (D := []) (F := []) (G := [12]) (Fr.refl.putR rfl) h rfl
theorem sw_m18 {v : Option Nat} (h : Sh σ) : Sh (wR σ 37 18 v) := Fr.sh (D := []) (F := []) (G := [18]) (Fr.refl.putR rfl) h rfl
/-- numbers of an array, the first n -/
def AI (σ : Hp) (t n : Nat) (f : Nat → Nat) : Prop := ∀ k, k < n → hi σ t k = nI (f k)
theorem AI.fr {t n : Nat} {f : Nat → Nat} (h : AI σ t n f) (g : Fr D F G σ τ) (ht : D.contains t = false) (h0 : t ≠ 0) (h37 : t ≠ 37) : AI τ t n f := fun k hk' => (g.i (dn_out ht h0 h37)).trans (h k hk')
theorem AI.put {t n : Nat} {f : Nat → Nat} (h : AI σ t n f) (i v : Nat) : AI (wI σ t i (nI v)) t n (up1 f i v) := fun k hk' => by
  unfold up1
  by_cases e : k = i
  · rw [e, hi_eq, if_pos rfl]
  · rw [hi_ni e, if_neg e]; exact h k hk'
theorem AI.ne {t n b i : Nat} {f : Nat → Nat} {v : Int32} (h : AI σ t n f) (hb : t ≠ b) : AI (wI σ b i v) t n f := fun k hk' => by
  rw [hi_ne hb]; exact h k hk'
theorem AI.congr {t n : Nat} {f g : Nat → Nat} (h : AI σ t n f) (e : ∀ k, k < n → f k = g k) : AI σ t n g := fun k hk' => by rw [h k hk', e k hk']
theorem AI.snoc {t i : Nat} {f : Nat → Nat} {v : Int32} (h : AI σ t i f) (e : v = nI (f i)) : AI (wI σ t i v) t (i + 1) f := fun k hk' => by
  by_cases ek : k = i
  · rw [ek, hi_eq, e]
  · rw [hi_ni ek]; exact h k (by omega)
theorem AI.nil {t : Nat} {f : Nat → Nat} : AI σ t 0 f := fun k hk' => absurd hk' (Nat.not_lt_zero _)
/-- cells and fields that a question to the class may write -/
abbrev CD : List Nat := [4, 5, 6, 11, 12, 13, 15, 16, 17, 18, 19, 20, 21, 22, 23, 24, 25, 26, 27, 28, 29, 30, 36]
abbrev CF : List Nat := [11, 12, 13, 17, 18, 19, 20, 22, 28, 29, 34, 42, 43, 48, 52]
abbrev MD : List Nat := [43, 44, 47, 49, 50, 51, 52, 53, 54, 55, 56, 57, 58, 59, 60, 61, 62]
abbrev MG : List Nat := [10, 11, 12, 13, 14, 15, 16, 21, 27, 28, 39, 46]
/-- what stands between two calls -/
def SC (σ : Hp) : Prop := hi σ 0 42 = 1000000 ∧ hi σ 27 0 = 0
def SM (σ : Hp) : Prop := hi σ 37 39 = 1000000000
theorem SC.fr (h : SC σ) (f : Fr D F G σ τ) (q : (dn D F G 0 42 && !D.contains 27) = true) : SC τ := by
  simp only [Bool.and_eq_true, Bool.not_eq_true'] at q
  exact ⟨(f.i q.1).trans h.1, (f.i (dn_out q.2 (by decide) (by decide))).trans h.2⟩
theorem SM.fr (h : SM σ) (f : Fr D F G σ τ) (q : dn D F G 37 39 = true) : SM τ := (f.i q).trans h
/-- the row told, or as it was -/
def RwC (σ τ : Hp) (w : Option (List Int64)) : Prop := match w with
  | none => hi τ 0 52 = hi σ 0 52 ∧ ∀ k, hl τ 36 k = hl σ 36 k
  | some l => RowC τ l
def RwM (σ τ : Hp) (w : Option (List Int64)) : Prop := match w with
  | none => hi τ 37 10 = hi σ 37 10 ∧ ∀ k, hl τ 43 k = hl σ 43 k
  | some l => RowM τ l
theorem RwC.fr (f : Fr D F G σ τ) (q : (dn D F G 0 52 && !D.contains 36) = true) : RwC σ τ none := by
  simp only [Bool.and_eq_true, Bool.not_eq_true'] at q
  exact ⟨f.i q.1, fun k => f.l (dn_out q.2 (by decide) (by decide))⟩
theorem RwM.fr (f : Fr D F G σ τ) (q : (dn D F G 37 10 && !D.contains 43) = true) : RwM σ τ none := by
  simp only [Bool.and_eq_true, Bool.not_eq_true'] at q
  exact ⟨f.i q.1, fun k => f.l (dn_out q.2 (by decide) (by decide))⟩
/-- what the class answers to a question -/
def QuC (σ : Hp) (r : Int32) (w : Option (List Int64)) (x : Int32) (τ : Hp) : Prop := x = r ∧ Fr CD CF [] σ τ ∧ SC τ ∧ RwC σ τ w
def QuM (σ : Hp) (r : Int32) (w : Option (List Int64)) (x : Int32) (τ : Hp) : Prop := x = r ∧ Fr MD [] MG σ τ ∧ SM τ ∧ RwM σ τ w
theorem row0 : RowC (wI σ 0 52 0) [] := ⟨hi_eq, by simp, fun k hk' => absurd hk' (Nat.not_lt_zero _)⟩
theorem rowM0 : RowM (wI σ 37 10 0) [] := ⟨hi_eq, by simp, fun k hk' => absurd hk' (Nat.not_lt_zero _)⟩
theorem getD_app {l : List Int64} {v : Int64} {k : Nat} (h : k < l.length) : (l ++ [v]).getD k 0 = l.getD k 0 := by
  rw [List.getD_eq_getElem?_getD, List.getD_eq_getElem?_getD, List.getElem?_append_left h]
theorem getD_last {l : List Int64} {v : Int64} : (l ++ [v]).getD l.length 0 = v := by
  rw [List.getD_eq_getElem?_getD, List.getElem?_append_right (Nat.le_refl _), Nat.sub_self]; rfl
theorem row_add {l : List Int64} {v : Int64} (h : Sh σ) (r : RowC σ l) (h16 : l.length < 16) : wp (f_X1_tells (some 0) v σ) (fun _ τ => Fr [36] [52] [] σ τ ∧ RowC τ (l ++ [v])) := by
  rw [c_tells h r.1 h16, wp_some]
  refine ⟨(Fr.refl.putL rfl).putI rfl, by rw [List.length_append]; exact hi_eq, by rw [List.length_append]; show l.length + 1 ≤ 16; omega, fun k hk' => ?_⟩
  rw [List.length_append] at hk'
  rw [hl_wI, hl_wL]
  by_cases e : k = l.length
  · rw [if_pos ⟨rfl, e⟩, e, getD_last]
  · have hk2 : k < l.length := by have : k < l.length + 1 := hk'; omega
    rw [if_neg (fun z => e z.2), getD_app hk2]
    exact r.2.2 k hk2
theorem rowM_add {l : List Int64} {v : Int64} (h : Sh σ) (r : RowM σ l) (h16 : l.length < 16) : wp (f_X3_tell (some 37) v σ) (fun _ τ => Fr [43] [] [10] σ τ ∧ RowM τ (l ++ [v])) := by
  rw [m_tell h r.1 h16, wp_some]
  refine ⟨(Fr.refl.putL rfl).putI rfl, by rw [List.length_append]; exact hi_eq, by rw [List.length_append]; show l.length + 1 ≤ 16; omega, fun k hk' => ?_⟩
  rw [List.length_append] at hk'
  rw [hl_wI, hl_wL]
  by_cases e : k = l.length
  · rw [if_pos ⟨rfl, e⟩, e, getD_last]
  · have hk2 : k < l.length := by have : k < l.length + 1 := hk'; omega
    rw [if_neg (fun z => e z.2), getD_app hk2]
    exact r.2.2 k hk2
/-- tells, as a step of simp: the k-th -/
theorem wt_0 {β : Type} {Q : β → Hp → Prop} {K : Unit → Hp → Option (β × Hp)} {v : Int64} (h : Sh σ) (q : hi σ 0 52 = 0) : wp (bnd (f_X1_tells (some 0) v σ) K) Q ↔ wp (K () (wI (wL σ 36 0 v) 0 52 1)) Q := by rw [c_tells (k := 0) h q (by decide), e_bnd]; rfl
theorem wt_1 {β : Type} {Q : β → Hp → Prop} {K : Unit → Hp → Option (β × Hp)} {v : Int64} (h : Sh σ) (q : hi σ 0 52 = 1) : wp (bnd (f_X1_tells (some 0) v σ) K) Q ↔ wp (K () (wI (wL σ 36 1 v) 0 52 2)) Q := by rw [c_tells (k := 1) h q (by decide), e_bnd]; rfl
theorem wt_2 {β : Type} {Q : β → Hp → Prop} {K : Unit → Hp → Option (β × Hp)} {v : Int64} (h : Sh σ) (q : hi σ 0 52 = 2) : wp (bnd (f_X1_tells (some 0) v σ) K) Q ↔ wp (K () (wI (wL σ 36 2 v) 0 52 3)) Q := by rw [c_tells (k := 2) h q (by decide), e_bnd]; rfl
theorem wtM_0 {β : Type} {Q : β → Hp → Prop} {K : Unit → Hp → Option (β × Hp)} {v : Int64} (h : Sh σ) (q : hi σ 37 10 = 0) : wp (bnd (f_X3_tell (some 37) v σ) K) Q ↔ wp (K () (wI (wL σ 43 0 v) 37 10 1)) Q := by rw [m_tell (k := 0) h q (by decide), e_bnd]; rfl
theorem wtM_1 {β : Type} {Q : β → Hp → Prop} {K : Unit → Hp → Option (β × Hp)} {v : Int64} (h : Sh σ) (q : hi σ 37 10 = 1) : wp (bnd (f_X3_tell (some 37) v σ) K) Q ↔ wp (K () (wI (wL σ 43 1 v) 37 10 2)) Q := by rw [m_tell (k := 1) h q (by decide), e_bnd]; rfl
theorem wtM_2 {β : Type} {Q : β → Hp → Prop} {K : Unit → Hp → Option (β × Hp)} {v : Int64} (h : Sh σ) (q : hi σ 37 10 = 2) : wp (bnd (f_X3_tell (some 37) v σ) K) Q ↔ wp (K () (wI (wL σ 43 2 v) 37 10 3)) Q := by rw [m_tell (k := 2) h q (by decide), e_bnd]; rfl
theorem row1 {v : Int64} : RowC (wI (wL (wI σ 0 52 0) 36 0 v) 0 52 1) [v] := ⟨hi_eq, by simp, fun k hk' => by
  obtain rfl : k = 0 := by have : k < 1 := hk'; omega
  rfl⟩
theorem row2 {v w : Int64} : RowC (wI (wL (wI (wL (wI σ 0 52 0) 36 0 v) 0 52 1) 36 1 w) 0 52 2) [v, w] := ⟨hi_eq, by simp, fun k hk' => by
  obtain rfl | rfl : k = 0 ∨ k = 1 := by have : k < 2 := hk'; omega
  · rfl
  · rfl⟩
theorem row3 {u v w : Int64} : RowC (wI (wL (wI (wL (wI (wL (wI σ 0 52 0) 36 0 u) 0 52 1) 36 1 v) 0 52 2) 36 2 w) 0 52 3) [u, v, w] := ⟨hi_eq, by simp, fun k hk' => by
  obtain rfl | rfl | rfl : k = 0 ∨ k = 1 ∨ k = 2 := by have : k < 3 := hk'; omega
  · rfl
  · rfl
  · rfl⟩
theorem rowM1 {v : Int64} : RowM (wI (wL (wI σ 37 10 0) 43 0 v) 37 10 1) [v] := ⟨hi_eq, by simp, fun k hk' => by
  obtain rfl : k = 0 := by have : k < 1 := hk'; omega
  rfl⟩
theorem rowM2 {v w : Int64} : RowM (wI (wL (wI (wL (wI σ 37 10 0) 43 0 v) 37 10 1) 43 1 w) 37 10 2) [v, w] := ⟨hi_eq, by simp, fun k hk' => by
  obtain rfl | rfl : k = 0 ∨ k = 1 := by have : k < 2 := hk'; omega
  · rfl
  · rfl⟩
theorem rowM3 {u v w : Int64} : RowM (wI (wL (wI (wL (wI (wL (wI σ 37 10 0) 43 0 u) 37 10 1) 43 1 v) 37 10 2) 43 2 w) 37 10 3) [u, v, w] := ⟨hi_eq, by simp, fun k hk' => by
  obtain rfl | rfl | rfl : k = 0 ∨ k = 1 ∨ k = 2 := by have : k < 3 := hk'; omega
  · rfl
  · rfl
  · rfl⟩
end ctx
