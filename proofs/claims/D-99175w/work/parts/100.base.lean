/-! FOUNDATION 1: logical values, the logical heap, its picture in the machine's heap -/
abbrev LV : Type := Int32 ⊕ Int64 ⊕ Option Nat ⊕ Nat
abbrev vI (x : Int32) : LV := Sum.inl x
abbrev vL (x : Int64) : LV := Sum.inr (Sum.inl x)
abbrev vA (x : Option Nat) : LV := Sum.inr (Sum.inr (Sum.inl x))
abbrev vS (x : Nat) : LV := Sum.inr (Sum.inr (Sum.inr x))
/-- where the made cells begin; the classes' numbers and slots; addresses from outside; the arrays' classes -/
abbrev Yx : Type := Nat × va_G × (Nat → Nat) × (Nat → ClassId)
def rz (Y : Yx) (o : Option Nat) : Option Nat := match o with
  | none => none
  | some a => some (Y.1 + a)
def cv (Y : Yx) (v : LV) : Value := match v with
  | .inl x => .int x
  | .inr (.inl x) => .long x
  | .inr (.inr (.inl o)) => va_rf (rz Y o)
  | .inr (.inr (.inr k)) => .ref (Y.2.2.1 k)
def lv2 (v : LV) : Bool := match v with
  | .inr (.inl _) => true
  | _ => false
def lvw (v : LV) : Nat := bif lv2 v then 2 else 1
theorem va_rf_cat (o : Option Nat) : (va_rf o).category = 1 := by cases o <;> rfl
theorem cv_cat (Y : Yx) (v : LV) : (cv Y v).category = lvw v := by
  rcases v with x | x | x | x
  · rfl
  · rfl
  · exact va_rf_cat _
  · rfl
theorem cv_cat2 (Y : Yx) (v : LV) : ((cv Y v).category == 2) = lv2 v := by
  rw [cv_cat]
  rcases v with x | x | x | x <;> rfl
def cve (Y : Yx) (q : Nat × LV) : Nat × Value := (q.1, cv Y q.2)
def lvE : Nat → List LV → List (Nat × LV)
  | _, [] => []
  | i, v :: vs => (i, v) :: lvE (bif lv2 v then i + 2 else i + 1) vs
theorem lvE_map (Y : Yx) (vs : List LV) : ∀ i, lv_args i (vs.map (cv Y)) = (lvE i vs).map (cve Y) := by
  induction vs with
  | nil => intro i; rfl
  | cons v vs ih =>
    intro i
    simp only [List.map_cons, lv_args, lvE, ih]
    rw [cv_cat]
    rcases v with x | x | x | x <;> rfl
def setE (env : List (Nat × LV)) (i : Nat) (v : LV) : List (Nat × LV) := (i, v) :: env.filter (fun q => !(q.1 == i) && !(q.1 + 1 == i && lv2 q.2))
def setE2 (env : List (Nat × LV)) (i : Nat) (v : LV) : List (Nat × LV) := (i, v) :: env.filter (fun q => !(q.1 == i) && (!(q.1 == i + 1) && !(q.1 + 1 == i && lv2 q.2)))
theorem setE_map (Y : Yx) (env : List (Nat × LV)) (i : Nat) (v : LV) : (i, cv Y v) :: (env.map (cve Y)).filter (fun q => !(q.1 == i) && !(q.1 + 1 == i && q.2.category == 2)) = (setE env i v).map (cve Y) := by
  unfold setE
  rw [List.filter_map, List.map_cons]
  congr 2
  apply List.filter_congr
  intro q _
  show (!(q.1 == i) && !(q.1 + 1 == i && (cv Y q.2).category == 2)) = _
  rw [cv_cat2]
theorem setE2_map (Y : Yx) (env : List (Nat × LV)) (i : Nat) (v : LV) : (i, cv Y v) :: (env.map (cve Y)).filter (fun q => !(q.1 == i) && (!(q.1 == i + 1) && !(q.1 + 1 == i && q.2.category == 2))) = (setE2 env i v).map (cve Y) := by
  unfold setE2
  rw [List.filter_map, List.map_cons]
  congr 2
  apply List.filter_congr
  intro q _
  show (!(q.1 == i) && (!(q.1 == i + 1) && !(q.1 + 1 == i && (cv Y q.2).category == 2))) = _
  rw [cv_cat2]
theorem lookup_mem {env : List (Nat × LV)} {i : Nat} {v : LV} (h : List.lookup i env = some v) : (i, v) ∈ env := by
  induction env with
  | nil => cases h
  | cons q env ih =>
    obtain ⟨j, w⟩ := q
    rw [List.lookup_cons] at h
    by_cases hj : i = j
    · subst hj
      simp at h
      subst h
      exact List.mem_cons_self
    · rw [show (i == j) = false from by simpa using hj] at h
      exact List.mem_cons_of_mem _ (ih h)
theorem env_at {Y : Yx} {ls : Array Slot} {nL : Nat} {env : List (Nat × LV)} (h : lv_has ls nL (env.map (cve Y))) {i : Nat} {v : LV} (hk : List.lookup i env = some v) : ls[i]? = some (.val (cv Y v)) :=
  h.2.2 (i, cv Y v) (List.mem_map.mpr ⟨(i, v), lookup_mem hk, rfl⟩)
theorem env_sub {Y : Yx} {ls : Array Slot} {nL : Nat} {env env' : List (Nat × LV)} (h : lv_has ls nL (env.map (cve Y))) (hs : env'.map (fun q => List.lookup q.1 env) = env'.map (fun q => some q.2)) : lv_has ls nL (env'.map (cve Y)) := by
  refine ⟨h.1, h.2.1, fun q hq => ?_⟩
  obtain ⟨x, hx, rfl⟩ := List.mem_map.mp hq
  have : ∀ x ∈ env', List.lookup x.1 env = some x.2 := by
    clear hq hx
    induction env' with
    | nil => intro x hx; cases hx
    | cons y ys ih =>
      simp only [List.map_cons, List.cons.injEq] at hs
      intro x hx
      rcases List.mem_cons.mp hx with rfl | hx
      · exact hs.1
      · exact ih hs.2 x hx
  exact env_at h (this x hx)
/-! the logical heap: number of cells made, their slots; kind and length by cell; ints, longs, references by cell and place -/
abbrev Hp : Type := Nat × Nat × (Nat → Nat × Nat) × (Nat → Nat → Int32) × (Nat → Nat → Int64) × (Nat → Nat → Option Nat)
def hn (σ : Hp) : Nat := σ.1
def hu (σ : Hp) : Nat := σ.2.1
def hk (σ : Hp) : Nat → Nat × Nat := σ.2.2.1
def hi (σ : Hp) : Nat → Nat → Int32 := σ.2.2.2.1
def hl (σ : Hp) : Nat → Nat → Int64 := σ.2.2.2.2.1
def hr (σ : Hp) : Nat → Nat → Option Nat := σ.2.2.2.2.2
def up2 {α : Type} (f : Nat → Nat → α) (a i : Nat) (v : α) : Nat → Nat → α := fun b j => if b = a ∧ j = i then v else f b j
def wI (σ : Hp) (a i : Nat) (v : Int32) : Hp := (σ.1, σ.2.1, σ.2.2.1, up2 σ.2.2.2.1 a i v, σ.2.2.2.2.1, σ.2.2.2.2.2)
def wL (σ : Hp) (a i : Nat) (v : Int64) : Hp := (σ.1, σ.2.1, σ.2.2.1, σ.2.2.2.1, up2 σ.2.2.2.2.1 a i v, σ.2.2.2.2.2)
def wR (σ : Hp) (a i : Nat) (v : Option Nat) : Hp := (σ.1, σ.2.1, σ.2.2.1, σ.2.2.2.1, σ.2.2.2.2.1, up2 σ.2.2.2.2.2 a i v)
/-- a new cell of a kind, all zero -/
def nw (σ : Hp) (k n : Nat) : Hp := (σ.1 + 1, σ.2.1 + n, (fun b => if b = σ.1 then (k, n) else σ.2.2.1 b), (fun b j => if b = σ.1 then 0 else σ.2.2.2.1 b j), (fun b j => if b = σ.1 then 0 else σ.2.2.2.2.1 b j), (fun b j => if b = σ.1 then none else σ.2.2.2.2.2 b j))
/-- so many ints copied from place to place -/
def cpI (σ : Hp) (a i b j n : Nat) : Hp := (σ.1, σ.2.1, σ.2.2.1, (fun c q => if c = b then va_cpy (σ.2.2.2.1 a) (σ.2.2.2.1 b) i j n q else σ.2.2.2.1 c q), σ.2.2.2.2.1, σ.2.2.2.2.2)
def Le (σ τ : Hp) : Prop := hn σ ≤ hn τ ∧ hu σ ≤ hu τ
theorem Le.rfl' {σ : Hp} : Le σ σ := ⟨Nat.le_refl _, Nat.le_refl _⟩
theorem Le.tr {σ τ υ : Hp} (h : Le σ τ) (k : Le τ υ) : Le σ υ := ⟨Nat.le_trans h.1 k.1, Nat.le_trans h.2 k.2⟩
