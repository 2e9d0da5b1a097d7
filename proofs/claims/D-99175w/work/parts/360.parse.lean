/-! PURE 8: how a rule is read: what is read, and where it stops -/
abbrev PR : Type := Option RE × Nat
def act (s a b : Int32) : Int32 := if s = 42 then a * b else if s = 43 then a + b else if s = 45 then a - b else if s = 47 then (if b = 0 then 0 else a / b) else if s = 60 then (if b ≤ a then 0 else 1) else if s = 62 then (if a ≤ b then 0 else 1) else if a = b then 1 else 0
def opE (s : Int32) (e f : RE) : RE := fun v => act s (e v) (f v)
def chn (c : Nat → Int32) (o1 o2 : Int32) (th : Nat → PR) : Nat → RE → Nat → PR
  | 0, _, p => (none, p)
  | k + 1, e, p => if c p = o1 ∨ c p = o2 then (match th (p + 1) with
      | (none, q) => (none, q)
      | (some f, q) => chn c o1 o2 th k (opE (c p) e f) q) else (some e, p)
def lev (c : Nat → Int32) (o1 o2 : Int32) (th : Nat → PR) (p : Nat) : PR := match th p with
  | (none, q) => (none, q)
  | (some e, q) => chn c o1 o2 th 100 e q
def held (c : Nat → Int32) (th : Nat → PR) (p : Nat) : PR := match lev c 43 45 (lev c 42 47 th) p with
  | (none, q) => (none, q)
  | (some e, q) => if c q = 60 ∨ c q = 62 ∨ c q = 61 then (match lev c 43 45 (lev c 42 47 th) (q + 1) with
      | (none, q') => (none, q')
      | (some f, q') => (some (opE (c q) e f), q')) else (some e, q)
abbrev isDig (x : Int32) : Prop := 48 ≤ x ∧ x ≤ 57
def pNum (c : Nat → Int32) : Nat → Int32 → Nat → Int32 × Nat
  | 0, v, p => (v, p)
  | k + 1, v, p => if isDig (c p) then pNum c k (10 * v + (c p - 48)) (p + 1) else (v, p)
/-- the letter's place among h, t, w, m, i, n, c -/
def ltrI (x : Int32) : Option Nat := if x = 104 then some 0 else if x = 116 then some 1 else if x = 119 then some 2 else if x = 109 then some 3 else if x = 105 then some 4 else if x = 110 then some 5 else if x = 99 then some 6 else none
def thing (c : Nat → Int32) : Nat → Nat → Nat → PR
  | 0, _, p => (none, p)
  | n + 1, deep, p => if c p = 45 then (match thing c n deep (p + 1) with
      | (none, q) => (none, q)
      | (some e, q) => (some (fun v => - e v), q))
    else if isDig (c p) then (some (fun _ => (pNum c 3 0 p).1), (pNum c 3 0 p).2)
    else match ltrI (c p) with
      | some k => (some (fun v => v k), p + 1)
      | none => if c p = 40 ∧ deep < 4 then (match held c (thing c n (deep + 1)) (p + 1) with
          | (none, q) => (none, q)
          | (some e, q) => if c q = 41 then (some e, q + 1) else (none, q)) else (none, p)
/-- what a text says: of so many signs, the first of them read -/
def ruleP (c : Nat → Int32) : PR := held c (thing c 45 0) 0
/-- a reader that goes on, not beyond e -/
def Gd (th : Nat → PR) (e p0 : Nat) : Prop := ∀ p, p0 ≤ p → p ≤ e → p ≤ (th p).2 ∧ (th p).2 ≤ e ∧ ((th p).1 ≠ none → p < (th p).2)
section parse
variable {c : Nat → Int32} {e p0 : Nat} {th : Nat → PR} {o1 o2 : Int32}
/-- signs end at e -/
def Ends (c : Nat → Int32) (e : Nat) : Prop := ∀ p, e ≤ p → c p = -1
theorem Ends.lt (h : Ends c e) {p : Nat} {x : Int32} (hx : c p = x) (hn' : x ≠ -1) : p < e := by
  apply Nat.lt_of_not_le
  intro hle
  exact hn' (hx.symm.trans (h p hle))
theorem chn_good (he : Ends c e) (h : Gd th e p0) (ho : o1 ≠ -1 ∧ o2 ≠ -1) : ∀ k f p, p0 ≤ p → p ≤ e → p ≤ (chn c o1 o2 th k f p).2 ∧ (chn c o1 o2 th k f p).2 ≤ e := by
  intro k
  induction k with
  | zero => intro f p _ hp; exact ⟨Nat.le_refl _, hp⟩
  | succ k ih =>
    intro f p h0 hp
    unfold chn
    by_cases hc : c p = o1 ∨ c p = o2
    · have hlt : p < e := by
        rcases hc with hc | hc
        · exact he.lt hc ho.1
        · exact he.lt hc ho.2
      rw [if_pos hc]
      have g := h (p + 1) (by omega) (by omega)
      rcases hth : th (p + 1) with ⟨x, q⟩
      rw [hth] at g
      cases x with
      | none => dsimp only at g ⊢; omega
      | some f' => dsimp only at g ⊢; have := ih (opE (c p) f f') q (by omega) (by omega); omega
    · rw [if_neg hc]; exact ⟨Nat.le_refl _, hp⟩
theorem lev_good (he : Ends c e) (h : Gd th e p0) (ho : o1 ≠ -1 ∧ o2 ≠ -1) : Gd (lev c o1 o2 th) e p0 := by
  intro p h0 hp
  have g := h p h0 hp
  unfold lev
  rcases hth : th p with ⟨x, q⟩
  rw [hth] at g
  cases x with
  | none => dsimp only at g ⊢; exact ⟨g.1, g.2.1, fun z => absurd rfl z⟩
  | some f =>
    dsimp only at g ⊢
    have := g.2.2 (by simp)
    have := chn_good he h ho 100 f q (by omega) g.2.1
    exact ⟨by omega, by omega, fun _ => by omega⟩
theorem sum_good (he : Ends c e) (h : Gd th e p0) : Gd (lev c 43 45 (lev c 42 47 th)) e p0 := lev_good he (lev_good he h ⟨by decide, by decide⟩) ⟨by decide, by decide⟩
theorem held_good (he : Ends c e) (h : Gd th e p0) : Gd (held c th) e p0 := by
  intro p h0 hp
  have g := sum_good he h p h0 hp
  unfold held
  rcases hth : lev c 43 45 (lev c 42 47 th) p with ⟨x, q⟩
  rw [hth] at g
  cases x with
  | none => dsimp only at g ⊢; exact ⟨g.1, g.2.1, fun z => absurd rfl z⟩
  | some f =>
    dsimp only at g ⊢
    have gq := g.2.2 (by simp)
    by_cases hc : c q = 60 ∨ c q = 62 ∨ c q = 61
    · rw [if_pos hc]
      have hlt : q < e := by
        rcases hc with hc | hc | hc <;> exact he.lt hc (by decide)
      have g' := sum_good he h (q + 1) (by omega) (by omega)
      rcases hth' : lev c 43 45 (lev c 42 47 th) (q + 1) with ⟨x', q'⟩
      rw [hth'] at g'
      cases x' with
      | none => dsimp only at g' ⊢; exact ⟨by omega, by omega, fun z => absurd rfl z⟩
      | some f' => dsimp only at g' ⊢; exact ⟨by omega, by omega, fun _ => by omega⟩
    · rw [if_neg hc]; exact ⟨by omega, by omega, fun _ => by omega⟩
theorem dig_ne {x : Int32} (h : isDig x) : x ≠ -1 := by
  rintro rfl
  exact absurd h.1 (by decide)
theorem pNum_good (he : Ends c e) : ∀ k v p, p ≤ e → p ≤ (pNum c k v p).2 ∧ (pNum c k v p).2 ≤ e := by
  intro k
  induction k with
  | zero => intro v p hp; exact ⟨Nat.le_refl _, hp⟩
  | succ k ih =>
    intro v p hp
    unfold pNum
    by_cases hd : isDig (c p)
    · rw [if_pos hd]
      have := he.lt rfl (dig_ne hd)
      have := ih (10 * v + (c p - 48)) (p + 1) (by omega)
      omega
    · rw [if_neg hd]; exact ⟨Nat.le_refl _, hp⟩
theorem let_ne {x : Int32} {k : Nat} (h : ltrI x = some k) : x ≠ -1 := by
  rintro rfl
  rw [show ltrI (-1) = none by decide] at h; cases h
theorem let_lt {x : Int32} {k : Nat} (h : ltrI x = some k) : k < 7 := by
  unfold ltrI at h
  repeat' split at h
  all_goals cases h
  all_goals decide
theorem thing_good (he : Ends c e) : ∀ n deep, Gd (thing c n deep) e (e + 1 - n) := by
  intro n
  induction n with
  | zero => intro deep p h0 hp; omega
  | succ n ih =>
    intro deep p h0 hp
    unfold thing
    by_cases h1 : c p = 45
    · rw [if_pos h1]
      have hlt := he.lt h1 (by decide)
      have g := ih deep (p + 1) (by omega) (by omega)
      rcases hth : thing c n deep (p + 1) with ⟨x, q⟩
      rw [hth] at g
      cases x with
      | none => dsimp only at g ⊢; exact ⟨by omega, by omega, fun z => absurd rfl z⟩
      | some f => dsimp only at g ⊢; exact ⟨by omega, by omega, fun _ => by omega⟩
    · rw [if_neg h1]
      by_cases h2 : isDig (c p)
      · rw [if_pos h2]
        have hlt := he.lt rfl (dig_ne h2)
        have e1 : pNum c 3 0 p = pNum c 2 (10 * 0 + (c p - 48)) (p + 1) := if_pos h2
        have := pNum_good he 2 (10 * 0 + (c p - 48)) (p + 1) (by omega)
        rw [e1]
        exact ⟨by dsimp only; omega, by dsimp only; omega, fun _ => by dsimp only; omega⟩
      · rw [if_neg h2]
        cases hl' : ltrI (c p) with
        | some k =>
          have hlt := he.lt rfl (let_ne hl')
          exact ⟨by dsimp only; omega, by dsimp only; omega, fun _ => by dsimp only; omega⟩
        | none =>
          dsimp only
          by_cases h3 : c p = 40 ∧ deep < 4
          · rw [if_pos h3]
            have hlt := he.lt h3.1 (by decide)
            have g := held_good he (ih (deep + 1)) (p + 1) (by omega) (by omega)
            rcases hth : held c (thing c n (deep + 1)) (p + 1) with ⟨x, q⟩
            rw [hth] at g
            cases x with
            | none => dsimp only at g ⊢; exact ⟨by omega, by omega, fun z => absurd rfl z⟩
            | some f =>
              dsimp only at g ⊢
              by_cases h4 : c q = 41
              · rw [if_pos h4]
                have := he.lt h4 (by decide)
                exact ⟨by dsimp only; omega, by dsimp only; omega, fun _ => by dsimp only; omega⟩
              · rw [if_neg h4]; exact ⟨by dsimp only; omega, by dsimp only; omega, fun z => absurd rfl z⟩
          · rw [if_neg h3]; exact ⟨Nat.le_refl _, hp, fun z => absurd rfl z⟩
theorem ruleP_good (he : Ends c e) (h : e ≤ 40) : (ruleP c).2 ≤ e ∧ ((ruleP c).1 ≠ none → 0 < (ruleP c).2) := by
  have := held_good he (thing_good he 45 0) 0 (by omega) (by omega)
  exact ⟨this.2.1, this.2.2⟩
end parse
