/-! PURE 22: when the hours can be dealt out; the first of the smallest -/
def Smd (g : Nat → Nat) : Prop := ∀ A B, g (A ||| B) + g (A &&& B) ≤ g A + g B
def ind (m N T : Nat) : Nat := if N &&& T = 0 then 0 else m
theorem ind_smd (m N : Nat) : Smd (ind m N) := by
  intro A B
  unfold ind
  by_cases h1 : N &&& A = 0
  · by_cases h2 : N &&& B = 0
    · rw [if_pos h1, if_pos h2, if_pos (by rw [Nat.and_or_distrib_left, h1, h2]; rfl), if_pos (by rw [← Nat.and_assoc, h1, Nat.zero_and])]
      exact Nat.le_refl _
    · rw [if_pos h1, if_neg h2, if_pos (show N &&& (A &&& B) = 0 by rw [← Nat.and_assoc, h1, Nat.zero_and])]
      split <;> omega
  · rw [if_neg h1]
    by_cases h2 : N &&& B = 0
    · rw [if_pos h2, if_pos (show N &&& (A &&& B) = 0 by rw [Nat.and_comm A B, ← Nat.and_assoc, h2, Nat.zero_and])]
      split <;> omega
    · rw [if_neg h2]
      split <;> split <;> omega
theorem smd_add {g g' : Nat → Nat} (h : Smd g) (h' : Smd g') : Smd (fun T => g T + g' T) := by
  intro A B
  have h1 := h A B
  have h2 := h' A B
  dsimp only
  omega
theorem ex_min {Q : Nat → Prop} (f : Nat → Nat) (h : ∃ x, Q x) : ∃ x, Q x ∧ ∀ y, Q y → f x ≤ f y := by
  obtain ⟨x, hx⟩ := h
  have : ∀ n x, f x = n → Q x → ∃ x, Q x ∧ ∀ y, Q y → f x ≤ f y := by
    intro n
    induction n using Nat.strongRecOn with
    | _ n ih =>
      intro x hn' hx
      by_cases hc : ∃ y, Q y ∧ f y < f x
      · obtain ⟨y, hy, hlt⟩ := hc
        exact ih (f y) (by omega) y rfl hy
      · refine ⟨x, hx, fun y hy => ?_⟩
        apply Nat.le_of_not_lt
        intro hlt
        exact hc ⟨y, hy, hlt⟩
  exact this (f x) x rfl hx
theorem hall_unit {g : Nat → Nat} (hg : Smd g) (N S : Nat) (hS : S < 256) (H : ∀ T, sbs T S → pop T ≤ g T + ind 1 N T) : ∃ b, sbs b S ∧ sbs b N ∧ pop b ≤ 1 ∧ ∀ T, sbs T (sd S b) → pop T ≤ g T := by
  by_cases hall : ∀ T, sbs T S → pop T ≤ g T
  · exact ⟨0, sbs_zero _, sbs_zero _, by decide, fun T hT => hall T (by rw [sd_zero] at hT; exact hT)⟩
  · have hex : ∃ T, sbs T S ∧ g T < pop T := by
      apply Classical.byContradiction
      intro hc
      refine hall fun T hT => ?_
      apply Nat.le_of_not_lt
      intro hlt
      exact hc ⟨T, hT, hlt⟩
    obtain ⟨M, ⟨hM, hM1⟩, hmin⟩ := ex_min (Q := fun T => sbs T S ∧ g T < pop T) pop hex
    have hN : ¬ N &&& M = 0 := fun z => by
      have := H M hM
      unfold ind at this
      rw [if_pos z] at this
      omega
    obtain ⟨h, hh1, hh2⟩ := and_nz hN
    have h8 : h < 8 := bit_lt8 (sbs_lt hM hS) hh2
    refine ⟨2 ^ h, sbs_trans (sbs_pow hh2) hM, sbs_pow hh1, by rw [pop_pow h8]; exact Nat.le_refl _, fun T hT => ?_⟩
    apply Nat.le_of_not_lt
    intro hlt
    obtain ⟨hT1, hT2⟩ := sbs_sd_iff.mp hT
    have a1 := hg T M
    have a2 := pop_or_and T M
    have a3 := H (T ||| M) (sbs_or hT1 hM)
    have a4 := H T hT1
    have a5 := H M hM
    have i1 : ∀ X, ind 1 N X ≤ 1 := fun X => by unfold ind; split <;> omega
    have b3 := i1 (T ||| M)
    have b4 := i1 T
    have b5 := i1 M
    have a6 := hmin (T &&& M) ⟨sbs_trans (sbs_and_l T M) hT1, by omega⟩
    have tb : T.testBit h = false := by
      cases hc : T.testBit h
      · rfl
      · have := and_zero_iff.mp hT2 h hc
        rw [Nat.testBit_two_pow_self] at this
        cases this
    have a7 := pop_lt (sbs_and_r T M) (i := h) (by rw [Nat.testBit_and, tb]; rfl) hh2 h8
    omega
theorem hall_cap {g : Nat → Nat} (hg : Smd g) (N : Nat) : ∀ m S, S < 256 → (∀ T, sbs T S → pop T ≤ g T + ind m N T) → ∃ b, sbs b S ∧ sbs b N ∧ pop b ≤ m ∧ ∀ T, sbs T (sd S b) → pop T ≤ g T := by
  intro m
  induction m with
  | zero =>
    intro S hS H
    refine ⟨0, sbs_zero _, sbs_zero _, by decide, fun T hT => ?_⟩
    rw [sd_zero] at hT
    have := H T hT
    unfold ind at this
    split at this <;> omega
  | succ m ih =>
    intro S hS H
    obtain ⟨b1, h1, h2, h3, h4⟩ := hall_unit (smd_add hg (ind_smd m N)) N S hS (fun T hT => by
      have := H T hT
      unfold ind at this ⊢
      by_cases hz : N &&& T = 0
      · rw [if_pos hz] at this ⊢; rw [if_pos hz]; omega
      · rw [if_neg hz] at this ⊢; rw [if_neg hz]; omega)
    obtain ⟨b2, g1, g2, g3, g4⟩ := ih (sd S b1) (sd_lt b1 hS) h4
    have := pop_or_and b1 b2
    exact ⟨b1 ||| b2, sbs_or h1 (sbs_trans g1 (sbs_sd _ _)), sbs_or h2 g2, by omega, fun T hT => g4 T (by rw [← sd_or]; exact hT)⟩
/-- so many at the most, of those who may -/
def gS (most N : Nat → Nat) (T n : Nat) : Nat := sumN (fun r => ind (most r) (N r) T) n
theorem gS_smd (most N : Nat → Nat) (n : Nat) : Smd (fun T => gS most N T n) := by
  induction n with
  | zero => intro A B; exact Nat.le_refl _
  | succ n ih => exact smd_add ih (ind_smd (most n) (N n))
theorem ind_mono {m N A B : Nat} (h : sbs A B) : ind m N A ≤ ind m N B := by
  unfold ind
  by_cases h1 : N &&& B = 0
  · rw [if_pos (show N &&& A = 0 from and_comm0.mp (sbs_mono0 h (and_comm0.mp h1)))]
    exact Nat.zero_le _
  · rw [if_neg h1]
    split <;> omega
theorem hall {most N : Nat → Nat} {pr : Nat → Nat → Nat} : ∀ k S, S < 256 → ((∃ c, Tw (fun r b => sbs b (N r) ∧ pop b ≤ most r) pr 0 k S c) ↔ ∀ T, sbs T S → pop T ≤ gS most N T k) := by
  intro k
  induction k with
  | zero =>
    intro S hS
    constructor
    · rintro ⟨c, h1, -⟩ T hT
      subst h1
      have : T = 0 := by have := sbs_le hT; omega
      subst this
      rw [pop_zero]; exact Nat.zero_le _
    · intro h
      have h1 := h S (sbs_refl S)
      have h2 : gS most N S 0 = 0 := rfl
      exact ⟨0, pop_eq0 hS (by omega), rfl⟩
  | succ k ih =>
    intro S hS
    constructor
    · rintro ⟨c, b, c', ⟨h1, h2⟩, h3, h4, -⟩ T hT
      rw [Nat.zero_add] at h1 h2
      have a1 := (ih _ (sd_lt b hS)).mp ⟨c', h4⟩ (sd T b) (sbs_sd_iff.mpr ⟨sbs_trans (sbs_sd T b) hT, sd_and_self T b⟩)
      have a2 := pop_sd' T b
      have a3 : gS most N (sd T b) k ≤ gS most N T k := sumN_le fun r _ => ind_mono (sbs_sd T b)
      have a4 : gS most N T (k + 1) = gS most N T k + ind (most k) (N k) T := rfl
      have a5 : pop (T &&& b) ≤ ind (most k) (N k) T := by
        unfold ind
        by_cases hz : N k &&& T = 0
        · rw [if_pos hz, show T &&& b = 0 from and_comm0.mp (sbs_mono0 h1 hz), pop_zero]
          exact Nat.le_refl _
        · rw [if_neg hz]
          exact Nat.le_trans (pop_mono (sbs_and_r T b)) h2
      omega
    · intro H
      obtain ⟨b, h1, h2, h3, h4⟩ := hall_cap (gS_smd most N k) (N k) (most k) S hS H
      obtain ⟨c, hc⟩ := (ih (sd S b) (sd_lt b hS)).mpr h4
      exact ⟨_, b, c, by rw [Nat.zero_add]; exact ⟨h2, h3⟩, h1, hc, rfl⟩
/-! the first of the best, number by number -/
def bst (bt : Nat → Nat → Bool) (p : Nat → Bool) : Nat → Option Nat
  | 0 => none
  | m + 1 => if p m && (match bst bt p m with | none => true | some b => bt m b) then some m else bst bt p m
theorem bst_congr {bt : Nat → Nat → Bool} {p q : Nat → Bool} : ∀ m, (∀ i, i < m → p i = q i) → bst bt p m = bst bt q m := by
  intro m
  induction m with
  | zero => intro _; rfl
  | succ m ih =>
    intro h
    unfold bst
    rw [ih (fun i hi' => h i (by omega)), h m (by omega)]
def fewer (m b : Nat) : Bool := decide (pop m < pop b)
theorem bst_few {p : Nat → Bool} : ∀ m, (bst fewer p m = none → ∀ s, s < m → p s = false) ∧ (∀ b, bst fewer p m = some b → b < m ∧ p b = true ∧ ∀ s, s < m → p s = true → pop b ≤ pop s ∧ (s < b → pop b < pop s)) := by
  intro m
  induction m with
  | zero =>
    refine ⟨fun _ s hs => absurd hs (Nat.not_lt_zero _), fun b hb => ?_⟩
    have : (none : Option Nat) = some b := hb
    cases this
  | succ m ih =>
    obtain ⟨i1, i2⟩ := ih
    unfold bst
    cases hp : p m
    · simp only [Bool.false_and, Bool.false_eq_true, if_false]
      refine ⟨fun h s hs => ?_, fun b hb => ?_⟩
      · by_cases e : s = m
        · rw [e]; exact hp
        · exact i1 h s (by omega)
      · obtain ⟨g1, g2, g3⟩ := i2 b hb
        refine ⟨by omega, g2, fun s hs hps => ?_⟩
        by_cases e : s = m
        · rw [e, hp] at hps; cases hps
        · exact g3 s (by omega) hps
    · cases hb0 : bst fewer p m with
      | none =>
        simp only [Bool.true_and, if_true]
        refine ⟨fun h => (by cases h), fun b hb => ?_⟩
        cases hb
        refine ⟨by omega, hp, fun s hs hps => ?_⟩
        by_cases e : s = m
        · rw [e]; exact ⟨Nat.le_refl _, fun z => absurd z (Nat.lt_irrefl _)⟩
        · rw [i1 hb0 s (by omega)] at hps; cases hps
      | some b0 =>
        obtain ⟨g1, g2, g3⟩ := i2 b0 hb0
        simp only [Bool.true_and]
        by_cases hf : fewer m b0 = true
        · rw [if_pos hf]
          refine ⟨fun h => (by cases h), fun b hb => ?_⟩
          cases hb
          have hf' : pop m < pop b0 := of_decide_eq_true hf
          refine ⟨by omega, hp, fun s hs hps => ?_⟩
          by_cases e : s = m
          · rw [e]; exact ⟨Nat.le_refl _, fun z => absurd z (Nat.lt_irrefl _)⟩
          · have := (g3 s (by omega) hps).1
            exact ⟨by omega, fun _ => by omega⟩
        · rw [if_neg hf]
          refine ⟨fun h => (by cases h), fun b hb => ?_⟩
          cases hb
          have hf' : ¬ pop m < pop b0 := fun z => hf (decide_eq_true z)
          refine ⟨by omega, g2, fun s hs hps => ?_⟩
          by_cases e : s = m
          · rw [e]; exact ⟨by omega, fun z => by omega⟩
          · exact g3 s (by omega) hps
/-- two marks, one the other's smallest: the same is found -/
theorem bst_same {p q : Nat → Bool} {m : Nat} (h1 : ∀ s, s < m → q s = true → p s = true) (h2 : ∀ s, s < m → p s = true → ∃ t, t ≤ s ∧ q t = true ∧ pop t ≤ pop s ∧ (pop t = pop s → t = s)) : bst fewer p m = bst fewer q m := by
  obtain ⟨p1, p2⟩ := bst_few (p := p) m
  obtain ⟨q1, q2⟩ := bst_few (p := q) m
  cases hp : bst fewer p m with
  | none =>
    cases hq : bst fewer q m with
    | none => rfl
    | some b =>
      obtain ⟨g1, g2, -⟩ := q2 b hq
      have := p1 hp b g1
      rw [h1 b g1 g2] at this
      cases this
  | some a =>
    obtain ⟨f1, f2, f3⟩ := p2 a hp
    obtain ⟨t, t1, t2, t3, t4⟩ := h2 a f1 f2
    cases hq : bst fewer q m with
    | none =>
      have := q1 hq t (by omega)
      rw [t2] at this
      cases this
    | some b =>
      obtain ⟨g1, g2, g3⟩ := q2 b hq
      have k1 := g3 t (by omega) t2
      have k2 := f3 b g1 (h1 b g1 g2)
      have k3 := f3 t (by omega) (h1 t (by omega) t2)
      have e : t = a := t4 (by omega)
      subst e
      congr 1
      omega
