/-! PURE 1: weakest preconditions of the computations; the shape of the heap -/
def wp {β : Type} (o : Option (β × Hp)) (P : β → Hp → Prop) : Prop := ∃ r σ, o = some (r, σ) ∧ P r σ
def Ok (σ : Hp) (a c : Nat) : Prop := a < hn σ ∧ (hk σ a).1 = c
def inb (i : Int32) (n : Nat) : Prop := ¬ (i < 0 ∨ n ≤ i.toNatClampNeg)
abbrev ix (i : Int32) : Nat := i.toNatClampNeg
section wps
variable {β γ : Type} {σ : Hp} {P : β → Hp → Prop}
theorem wp_some {r : β} : wp (some (r, σ)) P ↔ P r σ := by
  constructor
  · rintro ⟨r', σ', h, hp⟩; cases h; exact hp
  · intro h; exact ⟨r, σ, rfl, h⟩
theorem wp_none : wp (none : Option (β × Hp)) P ↔ False := by
  constructor
  · rintro ⟨r', σ', h, hp⟩; cases h
  · intro h; exact h.elim
theorem wp_ite {c : Prop} [Decidable c] {a b : Option (β × Hp)} : wp (if c then a else b) P ↔ (if c then wp a P else wp b P) := by
  by_cases h : c <;> simp [h]
theorem wp_mono {o : Option (β × Hp)} {P' : β → Hp → Prop} (h : wp o P) (hp : ∀ r σ, P r σ → P' r σ) : wp o P' := by
  obtain ⟨r, σ, e, h⟩ := h
  exact ⟨r, σ, e, hp r σ h⟩
theorem wp_bnd {o : Option (γ × Hp)} {K : γ → Hp → Option (β × Hp)} : wp (bnd o K) P ↔ wp o (fun r σ => wp (K r σ) P) := by
  cases o with
  | none => simp [bnd, wp_none]
  | some x => obtain ⟨r, σ⟩ := x; simp [bnd, wp_some]
theorem ob_some {a c : Nat} {K : Nat → Option γ} (h : Ok σ a c) : ob c σ (some a) K = K a := if_pos h
theorem wp_ob {a c : Nat} {K : Nat → Option (β × Hp)} : wp (ob c σ (some a) K) P ↔ Ok σ a c ∧ wp (K a) P := by
  by_cases h : Ok σ a c
  · rw [ob_some h]; simp [h]
  · have : ob c σ (some a) K = none := if_neg h
    rw [this]; simp [h, wp_none]
theorem wp_gI {a c k : Nat} {K : Int32 → Option (β × Hp)} : wp (gI c k σ (some a) K) P ↔ Ok σ a c ∧ wp (K (hi σ a k)) P := wp_ob
theorem wp_gR {a c k : Nat} {K : Option Nat → Option (β × Hp)} : wp (gR c k σ (some a) K) P ↔ Ok σ a c ∧ wp (K (hr σ a k)) P := wp_ob
theorem wp_pI {t a c k : Nat} {v : Int32} {K : Hp → Option (β × Hp)} : wp (pI t c k σ (some a) v K) P ↔ Ok σ a c ∧ okv t v = true ∧ wp (K (wI σ a k v)) P := by
  unfold pI
  rw [wp_ob]
  by_cases h : okv t v = true <;> simp [h, wp_none]
theorem wp_pR {a c k : Nat} {v : Option Nat} {K : Hp → Option (β × Hp)} : wp (pR c k σ (some a) v K) P ↔ Ok σ a c ∧ wp (K (wR σ a k v)) P := wp_ob
theorem wp_ar {t a : Nat} {i : Int32} {K : Nat → Nat → Option (β × Hp)} : wp (ar t σ (some a) i K) P ↔ (Ok σ a t ∧ inb i (hk σ a).2) ∧ wp (K a (ix i)) P := by
  by_cases h : Ok σ a t ∧ inb i (hk σ a).2
  · have : ar t σ (some a) i K = K a (ix i) := if_pos h
    rw [this]; simp [h]
  · have : ar t σ (some a) i K = none := if_neg h
    rw [this]; simp [h, wp_none]
theorem wp_lI {t a : Nat} {i : Int32} {K : Int32 → Option (β × Hp)} : wp (lI t σ (some a) i K) P ↔ (Ok σ a t ∧ inb i (hk σ a).2) ∧ wp (K (hi σ a (ix i))) P := wp_ar
theorem wp_lL {a : Nat} {i : Int32} {K : Int64 → Option (β × Hp)} : wp (lL σ (some a) i K) P ↔ (Ok σ a 103 ∧ inb i (hk σ a).2) ∧ wp (K (hl σ a (ix i))) P := wp_ar
theorem wp_lR {a : Nat} {i : Int32} {K : Option Nat → Option (β × Hp)} : wp (lR σ (some a) i K) P ↔ (Ok σ a 104 ∧ inb i (hk σ a).2) ∧ wp (K (hr σ a (ix i))) P := wp_ar
theorem wp_sI {a : Nat} {i v : Int32} {K : Hp → Option (β × Hp)} : wp (sI σ (some a) i v K) P ↔ (Ok σ a 100 ∧ inb i (hk σ a).2) ∧ wp (K (wI σ a (ix i) v)) P := wp_ar
theorem wp_sB {a : Nat} {i v : Int32} {K : Hp → Option (β × Hp)} : wp (sB σ (some a) i v K) P ↔ (Ok σ a 101 ∧ inb i (hk σ a).2) ∧ wp (K (wI σ a (ix i) (vp_nar .byte v))) P := wp_ar
theorem wp_sZ {a : Nat} {i v : Int32} {K : Hp → Option (β × Hp)} : wp (sZ σ (some a) i v K) P ↔ (Ok σ a 102 ∧ inb i (hk σ a).2) ∧ wp (K (wI σ a (ix i) (vp_nar .boolean v))) P := wp_ar
theorem wp_sL {a : Nat} {i : Int32} {v : Int64} {K : Hp → Option (β × Hp)} : wp (sL σ (some a) i v K) P ↔ (Ok σ a 103 ∧ inb i (hk σ a).2) ∧ wp (K (wL σ a (ix i) v)) P := wp_ar
theorem wp_nn {a : Nat} {K : Option (β × Hp)} : wp (nn (some a) K) P ↔ wp K P := Iff.rfl
theorem wp_idv {y : Int32} {K : Option (β × Hp)} : wp (idv y K) P ↔ ¬ y = 0 ∧ wp K P := by
  unfold idv
  by_cases h : y = 0 <;> simp [h, wp_none]
theorem wp_ldv {y : Int64} {K : Option (β × Hp)} : wp (ldv y K) P ↔ ¬ y = 0 ∧ wp K P := by
  unfold ldv
  by_cases h : y = 0 <;> simp [h, wp_none]
theorem wp_rz1 {v : Int32} {P : Int32 → Hp → Prop} : wp (rz1 v σ) P ↔ (v = 0 ∨ v = 1) ∧ P v σ := by
  unfold rz1
  by_cases h : v = 0 ∨ v = 1 <;> simp [h, wp_none, wp_some]
/-- a join: J holds wherever it is come to -/
theorem wp_jn {α : Type} {R : α → Hp → Option (β × Hp)} {B : (α → Hp → Option (β × Hp)) → Option (β × Hp)} (J : α → Hp → Prop) (hB : ∀ j, (∀ a σ, J a σ → wp (j a σ) P) → wp (B j) P) (hR : ∀ a σ, J a σ → wp (R a σ) P) : wp (jn R B) P := hB R hR
/-- a loop: an invariant, and a number that falls -/
theorem wp_lp {α : Type} {B : (α → Hp → Option (β × Hp)) → α → Hp → Option (β × Hp)} (I : α → Hp → Prop) (μ : α → Hp → Nat) (step : ∀ ag a σ, I a σ → (∀ a' σ', I a' σ' → μ a' σ' < μ a σ → wp (ag a' σ') P) → wp (B ag a σ) P) : ∀ n a σ, I a σ → μ a σ < n → wp (lp n B a σ) P := by
  intro n
  induction n with
  | zero => intro a σ _ h; exact absurd h (Nat.not_lt_zero _)
  | succ n ih =>
    intro a σ hI hm
    exact step (lp n B) a σ hI (fun a' σ' hI' h => ih a' σ' hI' (by omega))
end wps
/-! what the writers leave -/
section wr
variable {σ : Hp} {a i b c k n m : Nat} {x : Int32} {y : Int64} {z : Option Nat}
theorem hn_wI : hn (wI σ a i x) = hn σ := rfl
theorem hn_wL : hn (wL σ a i y) = hn σ := rfl
theorem hn_wR : hn (wR σ a i z) = hn σ := rfl
theorem hu_wI : hu (wI σ a i x) = hu σ := rfl
theorem hu_wL : hu (wL σ a i y) = hu σ := rfl
theorem hu_wR : hu (wR σ a i z) = hu σ := rfl
theorem hk_wI : hk (wI σ a i x) = hk σ := rfl
theorem hk_wL : hk (wL σ a i y) = hk σ := rfl
theorem hk_wR : hk (wR σ a i z) = hk σ := rfl
theorem hi_wL : hi (wL σ a i y) = hi σ := rfl
theorem hi_wR : hi (wR σ a i z) = hi σ := rfl
theorem hl_wI : hl (wI σ a i x) = hl σ := rfl
theorem hl_wR : hl (wR σ a i z) = hl σ := rfl
theorem hr_wI : hr (wI σ a i x) = hr σ := rfl
theorem hr_wL : hr (wL σ a i y) = hr σ := rfl
theorem hi_wI : hi (wI σ a i x) b k = if b = a ∧ k = i then x else hi σ b k := rfl
theorem hl_wL : hl (wL σ a i y) b k = if b = a ∧ k = i then y else hl σ b k := rfl
theorem hr_wR : hr (wR σ a i z) b k = if b = a ∧ k = i then z else hr σ b k := rfl
theorem Ok_wI : Ok (wI σ a i x) b c ↔ Ok σ b c := Iff.rfl
theorem Ok_wL : Ok (wL σ a i y) b c ↔ Ok σ b c := Iff.rfl
theorem Ok_wR : Ok (wR σ a i z) b c ↔ Ok σ b c := Iff.rfl
end wr
/-! the cells that the law's start makes: 0..36 the class's, 37..67 the reference's, 68 the law's own -/
def sk0 : List (Nat × Nat) := [(0, 53), (1, 6), (100, 8), (100, 8), (1, 6), (100, 8), (100, 8), (100, 8), (100, 8), (100, 8), (100, 80), (100, 8), (100, 8), (100, 8), (104, 12), (1, 6), (100, 8), (100, 8), (100, 8), (100, 8), (100, 8), (100, 60), (100, 60), (100, 60), (100, 8), (100, 8), (100, 64), (100, 256), (100, 256), (100, 8), (103, 256), (100, 12), (100, 12), (100, 12), (104, 2), (100, 2), (103, 16),
  (2, 51), (100, 27), (100, 8), (100, 8), (100, 8), (101, 80), (103, 16), (100, 24), (101, 40), (101, 40), (100, 7), (100, 324), (100, 27), (100, 27), (100, 8), (100, 8), (100, 240), (100, 8), (100, 8), (100, 8), (100, 8), (100, 64), (100, 2304), (100, 2304), (100, 8), (102, 256), (100, 12), (100, 12), (100, 54), (102, 2), (100, 2), (103, 1)]
/-- the pointers that never change: object, field, to -/
def sp0 : List (Nat × Nat × Nat) := [(0, 0, 1), (0, 1, 4), (0, 2, 7), (0, 3, 8), (0, 4, 9), (0, 9, 10), (0, 14, 11), (0, 15, 12), (0, 16, 13), (0, 23, 14), (0, 24, 15), (0, 26, 18), (0, 27, 19), (0, 30, 20), (0, 31, 21), (0, 32, 22), (0, 33, 23), (0, 35, 24), (0, 36, 25), (0, 37, 26), (0, 38, 27), (0, 39, 28), (0, 40, 29), (0, 41, 30), (0, 45, 31), (0, 46, 32), (0, 47, 33), (0, 49, 34), (0, 50, 35), (0, 51, 36),
  (1, 0, 2), (1, 1, 3), (4, 0, 5), (4, 1, 6), (15, 0, 16), (15, 1, 17),
  (37, 0, 38), (37, 4, 39), (37, 5, 40), (37, 6, 41), (37, 7, 42), (37, 9, 43), (37, 17, 44), (37, 22, 47), (37, 23, 48), (37, 25, 49), (37, 26, 50), (37, 29, 51), (37, 30, 52), (37, 31, 53), (37, 32, 54), (37, 33, 55), (37, 34, 56), (37, 35, 57), (37, 36, 58), (37, 37, 59), (37, 38, 60), (37, 40, 61), (37, 41, 62), (37, 42, 63), (37, 43, 64), (37, 48, 65), (37, 49, 66), (37, 50, 67)]
def Sh (σ : Hp) : Prop := 69 ≤ hn σ ∧ (∀ a, a < 69 → hk σ a = sk0.getD a (0, 0)) ∧ (∀ q ∈ sp0, hr σ q.1 q.2.1 = some q.2.2)
/-- the heap at the law's loop, first -/
def lwPre (σ : Hp) : Option (Unit × Hp) :=
  nO 0 53 σ fun y1 σ =>
  nn y1 <| bnd (f_X1_init y1 σ) fun _ σ =>
  nO 2 51 σ fun y2 σ =>
  nn y2 <| bnd (f_X3_init y2 σ) fun _ σ =>
  nA 103 σ 1 fun _ σ =>
  some ((), σ)
def hpI : Hp := ((lwPre hp0).getD ((), hp0)).2
set_option maxRecDepth 100000 in
theorem hpI_ok : (lwPre hp0).isSome = true := by decide +kernel
set_option maxRecDepth 100000 in
theorem hpI_n : hn hpI = 69 ∧ hu hpI ≤ 10000 := by decide +kernel
set_option maxRecDepth 100000 in
theorem hpI_k : ∀ a, a < 69 → hk hpI a = sk0.getD a (0, 0) := by decide +kernel
set_option maxRecDepth 100000 in
theorem hpI_p : ∀ q ∈ sp0, hr hpI q.1 q.2.1 = some q.2.2 := by decide +kernel
theorem hpI_Sh : Sh hpI := ⟨by rw [hpI_n.1]; exact Nat.le_refl _, hpI_k, hpI_p⟩
