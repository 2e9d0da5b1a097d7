/-! PURE 4: frames; loops by invariants -/
/-- a place that is not among the written: cells D, fields F of the class's object, fields G of the reference's -/
def dn (D F G : List Nat) (a i : Nat) : Bool := !(D.contains a) && ((a != 0 || !(F.contains i)) && (a != 37 || !(G.contains i)))
/-- nothing is made; only the places said are written -/
def Fr (D F G : List Nat) (σ τ : Hp) : Prop := hn τ = hn σ ∧ hu τ = hu σ ∧ hk τ = hk σ ∧ ∀ a i, (dn D F G a i = true → hi τ a i = hi σ a i ∧ hl τ a i = hl σ a i) ∧ (dn [] F G a i = true → hr τ a i = hr σ a i)
def sb (D F G D' F' G' : List Nat) : Bool := D.all (fun x => D'.contains x) && (F.all (fun x => F'.contains x) && G.all (fun x => G'.contains x))
section frame
variable {D F G D' F' G' : List Nat} {σ τ υ : Hp}
theorem Fr.refl : Fr D F G σ σ := ⟨rfl, rfl, rfl, fun _ _ => ⟨fun _ => ⟨rfl, rfl⟩, fun _ => rfl⟩⟩
theorem Fr.trans (h : Fr D F G σ τ) (k : Fr D F G τ υ) : Fr D F G σ υ :=
  ⟨k.1.trans h.1, k.2.1.trans h.2.1, k.2.2.1.trans h.2.2.1, fun a i => ⟨fun q => ⟨((k.2.2.2 a i).1 q).1.trans ((h.2.2.2 a i).1 q).1, ((k.2.2.2 a i).1 q).2.trans ((h.2.2.2 a i).1 q).2⟩, fun q => ((k.2.2.2 a i).2 q).trans ((h.2.2.2 a i).2 q)⟩⟩
theorem cont_mono {L L' : List Nat} (h : L.all (fun x => L'.contains x) = true) {a : Nat} (q : L'.contains a = false) : L.contains a = false := by
  cases hc : L.contains a
  · rfl
  · have : a ∈ L := List.contains_iff_mem.mp hc
    have := List.all_eq_true.mp h a this
    rw [q] at this; cases this
theorem dn_mono (h : sb D F G D' F' G' = true) {a i : Nat} (q : dn D' F' G' a i = true) : dn D F G a i = true := by
  unfold sb at h
  unfold dn at q ⊢
  simp only [Bool.and_eq_true, Bool.or_eq_true, Bool.not_eq_true'] at h q ⊢
  obtain ⟨h1, h2, h3⟩ := h
  obtain ⟨q1, q2, q3⟩ := q
  refine ⟨cont_mono h1 q1, ?_, ?_⟩
  · rcases q2 with q | q
    · exact Or.inl q
    · exact Or.inr (cont_mono h2 q)
  · rcases q3 with q | q
    · exact Or.inl q
    · exact Or.inr (cont_mono h3 q)
theorem sb_nil (h : sb D F G D' F' G' = true) : sb [] F G [] F' G' = true := by
  unfold sb at h ⊢
  simp only [Bool.and_eq_true] at h
  rw [h.2.1, h.2.2]; rfl
theorem dn_nil {a i : Nat} (h : dn D F G a i = true) : dn [] F G a i = true := by
  unfold dn at h ⊢
  simp only [Bool.and_eq_true] at h
  rw [Bool.and_eq_true, Bool.and_eq_true]
  exact ⟨rfl, h.2⟩
theorem Fr.mono (h : Fr D F G σ τ) (hs : sb D F G D' F' G' = true) : Fr D' F' G' σ τ := ⟨h.1, h.2.1, h.2.2.1, fun a i => ⟨fun q => (h.2.2.2 a i).1 (dn_mono hs q), fun q => (h.2.2.2 a i).2 (dn_mono (sb_nil hs) q)⟩⟩
theorem Fr.then (h : Fr D F G σ τ) (k : Fr D' F' G' τ υ) (hs : sb D' F' G' D F G = true) : Fr D F G σ υ := h.trans (k.mono hs)
theorem Fr.i (h : Fr D F G σ τ) {a i : Nat} (q : dn D F G a i = true) : hi τ a i = hi σ a i := ((h.2.2.2 a i).1 q).1
theorem Fr.r (h : Fr D F G σ τ) {a i : Nat} (q : dn [] F G a i = true) : hr τ a i = hr σ a i := (h.2.2.2 a i).2 q
theorem Fr.l (h : Fr D F G σ τ) {a i : Nat} (q : dn D F G a i = true) : hl τ a i = hl σ a i := ((h.2.2.2 a i).1 q).2
theorem Fr.putI (h : Fr D F G σ τ) {a i : Nat} {v : Int32} (hs : dn D F G a i = false) : Fr D F G σ (wI τ a i v) := by
  refine ⟨h.1, h.2.1, h.2.2.1, fun b j => ⟨fun q => ?_, (h.2.2.2 b j).2⟩⟩
  have hne : ¬ (b = a ∧ j = i) := by rintro ⟨rfl, rfl⟩; rw [hs] at q; cases q
  refine ⟨?_, ((h.2.2.2 b j).1 q).2⟩
  rw [hi_wI, if_neg hne]; exact ((h.2.2.2 b j).1 q).1
theorem Fr.putL (h : Fr D F G σ τ) {a i : Nat} {v : Int64} (hs : dn D F G a i = false) : Fr D F G σ (wL τ a i v) := by
  refine ⟨h.1, h.2.1, h.2.2.1, fun b j => ⟨fun q => ?_, (h.2.2.2 b j).2⟩⟩
  have hne : ¬ (b = a ∧ j = i) := by rintro ⟨rfl, rfl⟩; rw [hs] at q; cases q
  refine ⟨((h.2.2.2 b j).1 q).1, ?_⟩
  rw [hl_wL, if_neg hne]; exact ((h.2.2.2 b j).1 q).2
theorem Fr.putR (h : Fr D F G σ τ) {a i : Nat} {v : Option Nat} (hs : dn [] F G a i = false) : Fr D F G σ (wR τ a i v) := by
  refine ⟨h.1, h.2.1, h.2.2.1, fun b j => ⟨(h.2.2.2 b j).1, fun q => ?_⟩⟩
  have hne : ¬ (b = a ∧ j = i) := by rintro ⟨rfl, rfl⟩; rw [hs] at q; cases q
  rw [hr_wR, if_neg hne]; exact (h.2.2.2 b j).2 q
theorem dn_in {a i : Nat} (h : D.contains a = true) : dn D F G a i = false := by
  unfold dn; rw [h]; rfl
theorem dn_out {a i : Nat} (h : D.contains a = false) (h0 : a ≠ 0) (h37 : a ≠ 37) : dn D F G a i = true := by
  unfold dn
  simp only [h, bne_iff_ne.mpr h0, bne_iff_ne.mpr h37]; rfl
theorem cont_big {a : Nat} (h : D.all (fun x => decide (x < 69)) = true) (ha : 69 ≤ a) : D.contains a = false := by
  cases hc : D.contains a
  · rfl
  · have := List.all_eq_true.mp h a (List.contains_iff_mem.mp hc)
    have := of_decide_eq_true this
    omega
theorem dn_big {a i : Nat} (h : D.all (fun x => decide (x < 69)) = true) (ha : 69 ≤ a) : dn D F G a i = true := dn_out (cont_big h ha) (by omega) (by omega)
theorem Fr.sh (h : Fr D F G σ τ) (hs : Sh σ) (hq : sp0.all (fun q => dn [] F G q.1 q.2.1) = true) : Sh τ := by
  refine ⟨by rw [h.1]; exact hs.1, fun a ha => by rw [h.2.2.1]; exact hs.2.1 a ha, fun q hq' => ?_⟩
  rw [h.r (List.all_eq_true.mp hq q hq')]
  exact hs.2.2 q hq'
theorem Fr.ok (h : Fr D F G σ τ) {a c : Nat} (ho : Ok σ a c) : Ok τ a c := ⟨by rw [h.1]; exact ho.1, by rw [h.2.2.1]; exact ho.2⟩
theorem Fr.k (h : Fr D F G σ τ) : hk τ = hk σ := h.2.2.1
end frame
/-- a loop that counts, by an invariant -/
theorem wp_up {α β : Type} {P : β → Hp → Prop} {B : (α → Hp → Option (β × Hp)) → α → Hp → Option (β × Hp)} (N : Nat) (J : Nat → α → Hp → Prop)
    (step : ∀ ag i a σ, i < N → J i a σ → (∀ a' σ', J (i + 1) a' σ' → wp (ag a' σ') P) → wp (B ag a σ) P)
    (done : ∀ ag a σ, J N a σ → wp (B ag a σ) P) (hN : N < 2000) {a : α} {σ : Hp} (h0 : J 0 a σ) : wp (lp 2000 B a σ) P := by
  have : ∀ n i a σ, i ≤ N → N - i < n → J i a σ → wp (lp n B a σ) P := by
    intro n
    induction n with
    | zero => intro i a σ _ h; exact absurd h (Nat.not_lt_zero _)
    | succ n ih =>
      intro i a σ hi' hn' hJ
      by_cases h : i = N
      · subst h; exact done _ a σ hJ
      · exact step (lp n B) i a σ (by omega) hJ (fun a' σ' hJ' => ih (i + 1) a' σ' (by omega) (by omega) hJ')
  exact this 2000 0 a σ (Nat.zero_le _) (by omega) h0
theorem okv0 {v : Int32} : okv 0 v = true := rfl
theorem hi_ne {σ : Hp} {a b i : Nat} {x : Int32} (h : b ≠ a) : hi (wI σ a i x) b = hi σ b := by
  funext k
  rw [hi_wI, if_neg (fun z => h z.1)]
theorem hi_eq {σ : Hp} {a i : Nat} {x : Int32} : hi (wI σ a i x) a i = x := by
  rw [hi_wI, if_pos ⟨rfl, rfl⟩]
theorem hi_ni {σ : Hp} {a i k : Nat} {x : Int32} (h : k ≠ i) : hi (wI σ a i x) a k = hi σ a k := by
  rw [hi_wI, if_neg (fun z => h z.2)]
