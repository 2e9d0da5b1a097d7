/-! PURE 24: rows in order; the smoothest row -/
theorem sorted_uniq {R : Nat → Nat → Prop} (irr : ∀ a, ¬ R a a) (tr : ∀ a b c, R a b → R b c → R a c) : ∀ l m : List Nat, l.Pairwise R → m.Pairwise R → (∀ x, x ∈ l ↔ x ∈ m) → l = m := by
  intro l
  induction l with
  | nil =>
    intro m _ _ h
    cases m with
    | nil => rfl
    | cons b m' => exact absurd ((h b).mpr (List.mem_cons_self ..)) (List.not_mem_nil)
  | cons a l ih =>
    intro m hl hm h
    cases m with
    | nil => exact absurd ((h a).mp (List.mem_cons_self ..)) (List.not_mem_nil)
    | cons b m =>
      obtain ⟨l1, l2⟩ := List.pairwise_cons.mp hl
      obtain ⟨m1, m2⟩ := List.pairwise_cons.mp hm
      have hab : a = b := by
        rcases List.mem_cons.mp ((h a).mp (List.mem_cons_self ..)) with e | e
        · exact e
        · rcases List.mem_cons.mp ((h b).mpr (List.mem_cons_self ..)) with e' | e'
          · exact e'.symm
          · exact absurd (tr _ _ _ (l1 b e') (m1 a e)) (irr a)
      subst hab
      rw [ih m l2 m2 (fun x => ⟨fun hx => ?_, fun hx => ?_⟩)]
      · rcases List.mem_cons.mp ((h x).mp (List.mem_cons_of_mem _ hx)) with e | e
        · subst e; exact absurd (l1 x hx) (irr x)
        · exact e
      · rcases List.mem_cons.mp ((h x).mpr (List.mem_cons_of_mem _ hx)) with e | e
        · subst e; exact absurd (m1 x hx) (irr x)
        · exact e
/-- by key, then by number -/
def ltK (key : Nat → Nat) (p q : Nat) : Prop := key p < key q ∨ (key p = key q ∧ p < q)
theorem ltK_irr (key : Nat → Nat) (a : Nat) : ¬ ltK key a a := by unfold ltK; omega
theorem ltK_tr (key : Nat → Nat) (a b c : Nat) : ltK key a b → ltK key b c → ltK key a c := by unfold ltK; omega
/-- those of the first n that are marked, in order -/
def SrtL (key : Nat → Nat) (el : Nat → Bool) (n : Nat) (l : List Nat) : Prop := l.Pairwise (ltK key) ∧ ∀ x, x ∈ l ↔ x < n ∧ el x = true
theorem SrtL.uniq {key : Nat → Nat} {el : Nat → Bool} {n : Nat} {l m : List Nat} (h : SrtL key el n l) (g : SrtL key el n m) : l = m :=
  sorted_uniq (ltK_irr key) (ltK_tr key) l m h.1 g.1 (fun x => (h.2 x).trans (g.2 x).symm)
theorem SrtL.len {key : Nat → Nat} {el : Nat → Bool} {n : Nat} {l : List Nat} (h : SrtL key el n l) : l.length ≤ n := by
  have key' : ∀ n (l : List Nat), l.Pairwise (fun a b => a ≠ b) → (∀ x, x ∈ l → x < n) → l.length ≤ n := by
    intro n
    induction n with
    | zero =>
      intro l _ hx
      cases l with
      | nil => exact Nat.le_refl _
      | cons a l => exact absurd (hx a (List.mem_cons_self ..)) (Nat.not_lt_zero _)
    | succ n ih =>
      intro l hp hx
      have h1 := ih (l.filter (fun x => decide (x ≠ n))) (hp.filter _) (fun x hx' => by
        obtain ⟨a1, a2⟩ := List.mem_filter.mp hx'
        have := hx x a1
        have := of_decide_eq_true a2
        omega)
      have h2 : l.length ≤ (l.filter (fun x => decide (x ≠ n))).length + 1 := by
        clear h1 ih hx
        induction l with
        | nil => exact Nat.zero_le _
        | cons a l ihl =>
          obtain ⟨p1, p2⟩ := List.pairwise_cons.mp hp
          by_cases ha : a = n
          · have : l.filter (fun x => decide (x ≠ n)) = l := List.filter_eq_self.mpr fun y hy => decide_eq_true (fun e => p1 y hy (ha.trans e.symm))
            rw [List.filter_cons_of_neg (by simp [ha]), this]
            exact Nat.le_refl _
          · rw [List.filter_cons_of_pos (by simp [ha])]
            have := ihl p2
            simp only [List.length_cons]
            omega
      omega
  refine key' n l (h.1.imp ?_) (fun x hx => ((h.2 x).mp hx).1)
  intro a b hab e
  subst e
  exact ltK_irr key a hab
/-! the smoothest row -/
abbrev SO : Type := Option (Nat × List Nat)
def bet (x y : SO) : SO := match x with
  | none => y
  | some a => match y with
    | none => some a
    | some b => if b.1 < a.1 then some b else some a
def bestR (f : Nat → SO) : Nat → SO
  | 0 => none
  | r + 1 => bet (bestR f r) (f r)
def apt (P : Pk) (h r last : Nat) : Nat := if h = 0 then 0 else absd (P.width r) (P.width last)
def addS (v r : Nat) (o : SO) : SO := match o with
  | none => none
  | some x => some (v + x.1, r :: x.2)
/-- the least sum of so many hours from h on, and the first row of them -/
def smo (P : Pk) (may : Nat → Nat) : Nat → Nat → (Nat → Nat) → Nat → SO
  | 0, _, _, _ => some (0, [])
  | k + 1, h, rode, last => bestR (fun r => if (may r).testBit h = true ∧ rode r ≠ P.most r then addS (apt P h r last) r (smo P may k (h + 1) (up1 rode r (rode r + 1)) r) else none) P.n
/-- kept: the least so far and its row; what is found is put there if it is less -/
def keepS (s : Nat × List Nat) (sum : Nat) (pre : List Nat) (o : SO) : Nat × List Nat := match o with
  | none => s
  | some x => if sum + x.1 < s.1 then (sum + x.1, pre ++ x.2) else s
theorem keepS_lt {s : Nat × List Nat} {sum : Nat} {pre : List Nat} {x : Nat × List Nat} (h : sum + x.1 < s.1) : keepS s sum pre (some x) = (sum + x.1, pre ++ x.2) := if_pos h
theorem keepS_ge {s : Nat × List Nat} {sum : Nat} {pre : List Nat} {x : Nat × List Nat} (h : ¬ sum + x.1 < s.1) : keepS s sum pre (some x) = s := if_neg h
theorem bet_lt {a b : Nat × List Nat} (h : b.1 < a.1) : bet (some a) (some b) = some b := if_pos h
theorem bet_ge {a b : Nat × List Nat} (h : ¬ b.1 < a.1) : bet (some a) (some b) = some a := if_neg h
theorem keepS_bet (s : Nat × List Nat) (sum : Nat) (pre : List Nat) (x y : SO) : keepS s sum pre (bet x y) = keepS (keepS s sum pre x) sum pre y := by
  cases x with
  | none => rfl
  | some a =>
    cases y with
    | none => rfl
    | some b =>
      by_cases h1 : b.1 < a.1
      · rw [bet_lt h1]
        by_cases h2 : sum + a.1 < s.1
        · rw [keepS_lt (x := a) h2, keepS_lt (x := b) (show sum + b.1 < s.1 by omega)]
          exact (keepS_lt (show sum + b.1 < sum + a.1 by omega)).symm
        · rw [keepS_ge (x := a) h2]
      · rw [bet_ge h1]
        by_cases h2 : sum + a.1 < s.1
        · rw [keepS_lt (x := a) h2]
          exact (keepS_ge (show ¬ sum + b.1 < sum + a.1 by omega)).symm
        · rw [keepS_ge (x := a) h2, keepS_ge (x := b) (show ¬ sum + b.1 < s.1 by omega)]
theorem keepS_add (s : Nat × List Nat) (sum v r : Nat) (pre : List Nat) (o : SO) : keepS s sum pre (addS v r o) = keepS s (sum + v) (pre ++ [r]) o := by
  cases o with
  | none => rfl
  | some x =>
    unfold addS keepS
    dsimp only
    rw [Nat.add_assoc, List.append_assoc]
    rfl
theorem keepS_over (s : Nat × List Nat) (sum : Nat) (pre : List Nat) (o : SO) (h : s.1 ≤ sum) : keepS s sum pre o = s := by
  cases o with
  | none => rfl
  | some x => exact if_neg (by omega)
/-- the best is among them -/
theorem bestR_le {f : Nat → SO} : ∀ n r, r < n → ∀ x, f r = some x → ∃ y, bestR f n = some y ∧ y.1 ≤ x.1 := by
  intro n
  induction n with
  | zero => intro r hr' _ _; exact absurd hr' (Nat.not_lt_zero _)
  | succ n ih =>
    intro r hr' x hx
    unfold bestR
    by_cases e : r = n
    · subst e
      rw [hx]
      cases hb : bestR f r with
      | none => exact ⟨x, rfl, Nat.le_refl _⟩
      | some a =>
        unfold bet
        dsimp only
        by_cases h1 : x.1 < a.1
        · rw [if_pos h1]; exact ⟨x, rfl, Nat.le_refl _⟩
        · rw [if_neg h1]; exact ⟨a, rfl, by omega⟩
    · obtain ⟨y, hy, hle⟩ := ih r (by omega) x hx
      rw [hy]
      cases hf : f n with
      | none => exact ⟨y, rfl, hle⟩
      | some b =>
        unfold bet
        dsimp only
        by_cases h1 : b.1 < y.1
        · rw [if_pos h1]; exact ⟨b, rfl, by omega⟩
        · rw [if_neg h1]; exact ⟨y, rfl, hle⟩
theorem bestR_none {f : Nat → SO} {n r : Nat} (h : bestR f n = none) (hr' : r < n) : f r = none := by
  cases hf : f r with
  | none => rfl
  | some x =>
    obtain ⟨y, hy, -⟩ := bestR_le n r hr' x hf
    rw [hy] at h
    cases h
theorem bestR_mem {f : Nat → SO} {y : Nat × List Nat} : ∀ n, bestR f n = some y → ∃ q, q < n ∧ f q = some y := by
  intro n
  induction n with
  | zero => intro h; cases h
  | succ n ih =>
    intro h
    unfold bestR at h
    cases hp : bestR f n with
    | none => rw [hp] at h; exact ⟨n, Nat.lt_succ_self n, h⟩
    | some a =>
      rw [hp] at h
      have up : bestR f n = some y → ∃ q, q < n + 1 ∧ f q = some y := fun z => by
        obtain ⟨q, h1, h2⟩ := ih z
        exact ⟨q, by omega, h2⟩
      cases hf : f n with
      | none => rw [hf] at h; exact up (hp.trans h)
      | some b =>
        rw [hf] at h
        by_cases h1 : b.1 < a.1
        · rw [bet_lt h1] at h; exact ⟨n, Nat.lt_succ_self n, hf.trans h⟩
        · rw [bet_ge h1] at h; exact up (hp.trans h)
/-- the first that is as good as the best is the best -/
theorem bestR_fst {f : Nat → SO} {y : Nat × List Nat} : ∀ n r, r < n → bestR f n = some y → (∀ q, q < r → ∀ x, f q = some x → y.1 < x.1) → ∀ x, f r = some x → x.1 ≤ y.1 → x = y := by
  intro n
  induction n with
  | zero => intro r hr' _ _ _ _ _; exact absurd hr' (Nat.not_lt_zero _)
  | succ n ih =>
    intro r hr' hb hq x hx hle
    unfold bestR at hb
    by_cases e : r = n
    · subst e
      rw [hx] at hb
      cases hp : bestR f r with
      | none => rw [hp] at hb; exact Option.some.inj hb
      | some a =>
        rw [hp] at hb
        by_cases h1 : x.1 < a.1
        · rw [bet_lt h1] at hb; exact Option.some.inj hb
        · rw [bet_ge h1] at hb
          obtain ⟨q, h2, h3⟩ := bestR_mem r (hp.trans hb)
          have := hq q h2 y h3
          omega
    · cases hf : f n with
      | none =>
        rw [hf] at hb
        cases hp : bestR f n with
        | none => rw [hp] at hb; cases hb
        | some a => rw [hp] at hb; exact ih r (by omega) (hp.trans hb) hq x hx hle
      | some b =>
        rw [hf] at hb
        obtain ⟨a, ha, hal⟩ := bestR_le n r (by omega) x hx
        rw [ha] at hb
        by_cases h1 : b.1 < a.1
        · rw [bet_lt h1] at hb
          have := Option.some.inj hb
          subst this
          omega
        · rw [bet_ge h1] at hb
          exact ih r (by omega) (ha.trans hb) hq x hx hle
