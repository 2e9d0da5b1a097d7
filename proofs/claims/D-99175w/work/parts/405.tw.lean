/-! PURE 21: rotas as hours dealt out to riders; what they cost -/
/-- riders i .. i + k - 1 have the hours S among them, for c -/
def Tw (ok : Nat → Nat → Prop) (pr : Nat → Nat → Nat) (i : Nat) : Nat → Nat → Nat → Prop
  | 0, S, c => S = 0 ∧ c = 0
  | k + 1, S, c => ∃ b c', ok (i + k) b ∧ sbs b S ∧ Tw ok pr i k (sd S b) c' ∧ c = c' + pr (i + k) b
/-- v is the least of R, or there is none -/
def IsMin (R : Nat → Prop) (inf v : Nat) : Prop := (v = inf ∧ ∀ c, ¬ R c) ∨ (v < inf ∧ R v ∧ ∀ c, R c → v ≤ c)
section tw
variable {ok ok' : Nat → Nat → Prop} {pr pr' : Nat → Nat → Nat}
theorem Tw.mono {i : Nat} : ∀ k S c, (∀ r b, i ≤ r → r < i + k → sbs b S → ok r b → ok' r b ∧ pr r b = pr' r b) → Tw ok pr i k S c → Tw ok' pr' i k S c := by
  intro k
  induction k with
  | zero => intro S c _ h; exact h
  | succ k ih =>
    rintro S c H ⟨b, c', h1, h2, h3, h4⟩
    obtain ⟨g1, g2⟩ := H (i + k) b (by omega) (by omega) h2 h1
    exact ⟨b, c', g1, h2, ih _ _ (fun r b' hr1 hr2 hb => H r b' hr1 (by omega) (sbs_trans hb (sbs_sd _ _))) h3, by rw [h4, g2]⟩
/-- the first is taken off -/
theorem Tw.peel {i : Nat} : ∀ k S c, Tw ok pr i (k + 1) S c ↔ ∃ b c', ok i b ∧ sbs b S ∧ Tw ok pr (i + 1) k (sd S b) c' ∧ c = c' + pr i b := by
  intro k
  induction k with
  | zero =>
    intro S c
    constructor
    · rintro ⟨b, c', h1, h2, h3, h4⟩; exact ⟨b, c', h1, h2, h3, h4⟩
    · rintro ⟨b, c', h1, h2, h3, h4⟩; exact ⟨b, c', h1, h2, h3, h4⟩
  | succ k ih =>
    intro S c
    constructor
    · rintro ⟨b, c', h1, h2, h3, h4⟩
      obtain ⟨a, c'', g1, g2, g3, g4⟩ := (ih _ _).mp h3
      obtain ⟨g5, g6⟩ := sbs_sd_iff.mp g2
      refine ⟨a, c'' + pr (i + (k + 1)) b, g1, g5, ⟨b, c'', ?_, sbs_sd_iff.mpr ⟨h2, and_comm0.mp g6⟩, ?_, ?_⟩, by omega⟩
      · rw [show i + 1 + k = i + (k + 1) by omega]; exact h1
      · rw [sd_comm]; exact g3
      · rw [show i + 1 + k = i + (k + 1) by omega]
    · rintro ⟨a, c', h1, h2, ⟨b, c'', g1, g2, g3, g4⟩, h4⟩
      obtain ⟨g5, g6⟩ := sbs_sd_iff.mp g2
      rw [show i + 1 + k = i + (k + 1) by omega] at g1 g4
      refine ⟨b, c'' + pr i a, g1, g5, (ih _ _).mpr ⟨a, c'', h1, sbs_sd_iff.mpr ⟨h2, and_comm0.mp g6⟩, ?_, rfl⟩, by omega⟩
      rw [sd_comm]; exact g3
/-- an hour that nobody may have -/
theorem Tw.lost {i h : Nat} : ∀ k S c, S.testBit h = true → (∀ r b, i ≤ r → r < i + k → ok r b → b.testBit h = false) → ¬ Tw ok pr i k S c := by
  intro k
  induction k with
  | zero =>
    rintro S c hS _ ⟨h1, -⟩
    rw [h1, Nat.zero_testBit] at hS
    cases hS
  | succ k ih =>
    rintro S c hS H ⟨b, c', h1, h2, h3, h4⟩
    refine ih (sd S b) c' ?_ (fun r b' hr1 hr2 => H r b' hr1 (by omega)) h3
    rw [sd_bit, hS, H (i + k) b (by omega) (by omega) h1]
    rfl
/-- what each must have changes nothing where nobody else may -/
theorem Tw.must {i : Nat} {must : Nat → Nat} : ∀ k S c, (∀ r, i ≤ r → r < i + k → sbs (must r) S) → (∀ r o b, i ≤ r → r < i + k → i ≤ o → o < i + k → r ≠ o → ok o b → b &&& must r = 0) → (Tw ok pr i k S c ↔ Tw (fun r b => ok r b ∧ sbs (must r) b) pr i k S c) := by
  intro k
  induction k with
  | zero => intro S c _ _; exact Iff.rfl
  | succ k ih =>
    intro S c H1 H2
    have key : ∀ b, ok (i + k) b → ∀ r, i ≤ r → r < i + k → sbs (must r) (sd S b) := fun b hb r hr1 hr2 =>
      sbs_sd_iff.mpr ⟨H1 r hr1 (by omega), and_comm0.mp (H2 r (i + k) b hr1 (by omega) (by omega) (by omega) (by omega) hb)⟩
    have H3 : ∀ r o b, i ≤ r → r < i + k → i ≤ o → o < i + k → r ≠ o → ok o b → b &&& must r = 0 := fun r o b a1 a2 a3 a4 => H2 r o b a1 (by omega) a3 (by omega)
    constructor
    · rintro ⟨b, c', h1, h2, h3, h4⟩
      refine ⟨b, c', ⟨h1, ?_⟩, h2, (ih _ _ (key b h1) H3).mp h3, h4⟩
      refine sbs_iff.mpr fun h hh => ?_
      apply Classical.byContradiction
      intro hb
      refine Tw.lost (h := h) k (sd S b) c' ?_ (fun r b' hr1 hr2 hok => ?_) h3
      · rw [sd_bit, sbs_iff.mp (H1 (i + k) (by omega) (by omega)) h hh, Bool.eq_false_iff.mpr hb]
        rfl
      · exact and_zero_iff.mp (and_comm0.mp (H2 (i + k) r b' (by omega) (by omega) hr1 (by omega) (by omega) hok)) h hh
    · rintro ⟨b, c', ⟨h1, -⟩, h2, h3, h4⟩
      exact ⟨b, c', h1, h2, (ih _ _ (key b h1) H3).mpr h3, h4⟩
/-- somebody has the hour; it can be his alone -/
theorem Tw.has {h : Nat} : ∀ k S c, Tw ok pr 0 k S c → S.testBit h = true → ∃ r, r < k ∧ (∃ b, ok r b ∧ b.testBit h = true) ∧ Tw (fun o b => ok o b ∧ (o ≠ r → b.testBit h = false)) pr 0 k S c := by
  intro k
  induction k with
  | zero =>
    rintro S c ⟨h1, -⟩ hS
    rw [h1, Nat.zero_testBit] at hS
    cases hS
  | succ k ih =>
    rintro S c ⟨b, c', h1, h2, h3, h4⟩ hS
    rw [Nat.zero_add] at h1 h4
    by_cases hb : b.testBit h = true
    · refine ⟨k, Nat.lt_succ_self k, ⟨b, h1, hb⟩, ⟨b, c', by rw [Nat.zero_add]; exact ⟨h1, fun e => absurd rfl e⟩, h2, ?_, by rw [Nat.zero_add]; exact h4⟩⟩
      refine Tw.mono k _ _ (fun r b' _ hr2 hb' hok => ⟨⟨hok, fun _ => ?_⟩, rfl⟩) h3
      cases hx : b'.testBit h
      · rfl
      · have := sbs_iff.mp hb' h hx
        rw [sd_bit, hb] at this
        cases hS' : S.testBit h <;> rw [hS'] at this <;> cases this
    · have hb' := Bool.eq_false_iff.mpr hb
      obtain ⟨r, hr, hx, hT⟩ := ih (sd S b) c' h3 (by rw [sd_bit, hS, hb']; rfl)
      exact ⟨r, by omega, hx, ⟨b, c', by rw [Nat.zero_add]; exact ⟨h1, fun _ => hb'⟩, h2, hT, by rw [Nat.zero_add]; exact h4⟩⟩
theorem Tw.bound {i m : Nat} : ∀ k S c, (∀ r b, i ≤ r → r < i + k → ok r b → pr r b ≤ m * pop b) → Tw ok pr i k S c → c ≤ m * pop S := by
  intro k
  induction k with
  | zero => rintro S c _ ⟨-, h⟩; rw [h]; exact Nat.zero_le _
  | succ k ih =>
    rintro S c H ⟨b, c', h1, h2, h3, h4⟩
    have g1 := ih _ _ (fun r b' hr1 hr2 => H r b' hr1 (by omega)) h3
    have g2 := H (i + k) b (by omega) (by omega) h1
    have g3 := pop_sd h2
    rw [h4, ← g3, Nat.mul_add]
    omega
theorem IsMin.uniq {R R' : Nat → Prop} {inf inf' v v' : Nat} (h : IsMin R inf v) (h' : IsMin R' inf' v') (hR : ∀ c, R c ↔ R' c) : (v = inf ↔ v' = inf') ∧ (v ≠ inf → v = v') := by
  rcases h with ⟨h1, h2⟩ | ⟨h1, h2, h3⟩ <;> rcases h' with ⟨g1, g2⟩ | ⟨g1, g2, g3⟩
  · exact ⟨⟨fun _ => g1, fun _ => h1⟩, fun e => absurd h1 e⟩
  · exact absurd ((hR _).mpr g2) (h2 _)
  · exact absurd ((hR _).mp h2) (g2 _)
  · have a1 := h3 _ ((hR _).mpr g2)
    have a2 := g3 _ ((hR _).mp h2)
    exact ⟨⟨fun e => absurd e (by omega), fun e => absurd e (by omega)⟩, fun _ => by omega⟩
theorem IsMin.eq {R R' : Nat → Prop} {inf v v' : Nat} (h : IsMin R inf v) (h' : IsMin R' inf v') (hR : ∀ c, R c ↔ R' c) : v = v' := by
  have := IsMin.uniq h h' hR
  by_cases e : v = inf
  · rw [e, this.1.mp e]
  · exact this.2 e
theorem IsMin.le {R : Nat → Prop} {inf v : Nat} (h : IsMin R inf v) : v ≤ inf := by
  rcases h with ⟨h1, -⟩ | ⟨h1, -⟩ <;> omega
theorem IsMin.inf_iff {R : Nat → Prop} {inf v : Nat} (h : IsMin R inf v) : v = inf ↔ ∀ c, ¬ R c := by
  rcases h with ⟨h1, h2⟩ | ⟨h1, h2, h3⟩
  · exact ⟨fun _ => h2, fun _ => h1⟩
  · exact ⟨fun e => absurd e (by omega), fun g => absurd h2 (g v)⟩
theorem IsMin.congr {R R' : Nat → Prop} {inf v : Nat} (h : IsMin R inf v) (hR : ∀ c, R c ↔ R' c) : IsMin R' inf v := by
  rcases h with ⟨h1, h2⟩ | ⟨h1, h2, h3⟩
  · exact Or.inl ⟨h1, fun c g => h2 c ((hR c).mpr g)⟩
  · exact Or.inr ⟨h1, (hR v).mp h2, fun c g => h3 c ((hR c).mpr g)⟩
/-- least of two kinds -/
theorem IsMin.or2 {R R' : Nat → Prop} {inf v v' : Nat} (h : IsMin R inf v) (h' : IsMin R' inf v') : IsMin (fun c => R c ∨ R' c) inf (min v v') := by
  rcases h with ⟨h1, h2⟩ | ⟨h1, h2, h3⟩ <;> rcases h' with ⟨g1, g2⟩ | ⟨g1, g2, g3⟩
  · refine Or.inl ⟨by omega, fun c hc => ?_⟩
    rcases hc with hc | hc
    · exact h2 c hc
    · exact g2 c hc
  · refine Or.inr ⟨by omega, Or.inr (by rw [show min v v' = v' by omega]; exact g2), fun c hc => ?_⟩
    rcases hc with hc | hc
    · exact absurd hc (h2 c)
    · have := g3 c hc; omega
  · refine Or.inr ⟨by omega, Or.inl (by rw [show min v v' = v by omega]; exact h2), fun c hc => ?_⟩
    rcases hc with hc | hc
    · have := h3 c hc; omega
    · exact absurd hc (g2 c)
  · refine Or.inr ⟨by omega, ?_, fun c hc => ?_⟩
    · rcases Nat.le_total v v' with e | e
      · exact Or.inl (by rw [Nat.min_eq_left e]; exact h2)
      · exact Or.inr (by rw [Nat.min_eq_right e]; exact g2)
    · rcases hc with hc | hc
      · have := h3 c hc; omega
      · have := g3 c hc; omega
/-- more by p -/
theorem IsMin.add {R : Nat → Prop} {inf v : Nat} (p : Nat) (h : IsMin R inf v) (hb : ∀ c, R c → c + p < inf) : IsMin (fun c => ∃ c', R c' ∧ c = c' + p) inf (min inf (v + p)) := by
  rcases h with ⟨h1, h2⟩ | ⟨h1, h2, h3⟩
  · exact Or.inl ⟨by omega, fun c ⟨c', h, _⟩ => h2 c' h⟩
  · have := hb v h2
    refine Or.inr ⟨by omega, ⟨v, h2, by omega⟩, ?_⟩
    rintro c ⟨c', h, rfl⟩
    have := h3 c' h
    omega
end tw
/-! ways counted -/
def Tc (ok : Nat → Nat → Bool) (i : Nat) : Nat → Nat → Nat
  | 0, S => if S = 0 then 1 else 0
  | k + 1, S => sumN (fun b => if ok (i + k) b ∧ sbs b S then Tc ok i k (sd S b) else 0) 256
theorem ite_sum {p : Prop} [Decidable p] (f : Nat → Nat) (n : Nat) : (if p then sumN f n else 0) = sumN (fun b => if p then f b else 0) n := by
  by_cases h : p
  · simp only [if_pos h]
  · simp only [if_neg h]
    exact (sumN_zero (fun _ _ => rfl)).symm
theorem Tc.peel {ok : Nat → Nat → Bool} {i : Nat} : ∀ k S, Tc ok i (k + 1) S = sumN (fun b => if ok i b ∧ sbs b S then Tc ok (i + 1) k (sd S b) else 0) 256 := by
  intro k
  induction k with
  | zero => intro S; rfl
  | succ k ih =>
    intro S
    show sumN (fun b => if ok (i + (k + 1)) b ∧ sbs b S then Tc ok i (k + 1) (sd S b) else 0) 256 = sumN (fun a => if ok i a ∧ sbs a S then sumN (fun b => if ok (i + 1 + k) b ∧ sbs b (sd S a) then Tc ok (i + 1) k (sd (sd S a) b) else 0) 256 else 0) 256
    simp only [ih, ite_sum]
    rw [sumN_swap]
    refine sumN_congr fun a _ => sumN_congr fun b _ => ?_
    rw [show i + 1 + k = i + (k + 1) by omega, sd_comm S b a]
    have e1 := @sbs_sd_iff a S b
    have e2 := @sbs_sd_iff b S a
    have e3 := @and_comm0 a b
    by_cases h1 : ok (i + (k + 1)) b ∧ sbs b S
    · by_cases h2 : ok i a ∧ sbs a S
      · by_cases h3 : a &&& b = 0
        · rw [if_pos h1, if_pos h2, if_pos ⟨h2.1, e1.mpr ⟨h2.2, h3⟩⟩, if_pos ⟨h1.1, e2.mpr ⟨h1.2, e3.mp h3⟩⟩]
        · rw [if_pos h1, if_pos h2, if_neg (fun z => h3 (e1.mp z.2).2), if_neg (fun z => h3 (e3.mpr (e2.mp z.2).2))]
      · rw [if_pos h1, if_neg h2, if_neg (fun z => h2 ⟨z.1, (e1.mp z.2).1⟩)]
    · rw [if_neg h1]
      by_cases h2 : ok i a ∧ sbs a S
      · rw [if_pos h2, if_neg (fun z => h1 ⟨z.1, (e2.mp z.2).1⟩)]
      · rw [if_neg h2]
theorem Tc.lost {ok : Nat → Nat → Bool} {i h : Nat} : ∀ k S, S.testBit h = true → (∀ r b, i ≤ r → r < i + k → ok r b = true → b.testBit h = false) → Tc ok i k S = 0 := by
  intro k
  induction k with
  | zero =>
    intro S hS _
    exact if_neg (fun z => by rw [z, Nat.zero_testBit] at hS; cases hS)
  | succ k ih =>
    intro S hS H
    refine sumN_zero fun b _ => ?_
    by_cases h1 : ok (i + k) b ∧ sbs b S
    · rw [if_pos h1]
      refine ih (sd S b) ?_ (fun r b' hr1 hr2 => H r b' hr1 (by omega))
      rw [sd_bit, hS, H (i + k) b (by omega) (by omega) h1.1]
      rfl
    · rw [if_neg h1]
theorem Tc.must {ok ok' : Nat → Nat → Bool} {i : Nat} {must : Nat → Nat} : ∀ k S, (∀ r b, i ≤ r → r < i + k → (ok' r b = true ↔ ok r b = true ∧ sbs (must r) b)) → (∀ r, i ≤ r → r < i + k → sbs (must r) S) → (∀ r o b, i ≤ r → r < i + k → i ≤ o → o < i + k → r ≠ o → ok o b = true → b &&& must r = 0) → Tc ok i k S = Tc ok' i k S := by
  intro k
  induction k with
  | zero => intro S _ _ _; rfl
  | succ k ih =>
    intro S H0 H1 H2
    have key : ∀ b, ok (i + k) b = true → ∀ r, i ≤ r → r < i + k → sbs (must r) (sd S b) := fun b hb r hr1 hr2 =>
      sbs_sd_iff.mpr ⟨H1 r hr1 (by omega), and_comm0.mp (H2 r (i + k) b hr1 (by omega) (by omega) (by omega) (by omega) hb)⟩
    have H3 : ∀ r o b, i ≤ r → r < i + k → i ≤ o → o < i + k → r ≠ o → ok o b = true → b &&& must r = 0 := fun r o b a1 a2 a3 a4 => H2 r o b a1 (by omega) a3 (by omega)
    have H4 : ∀ r b, i ≤ r → r < i + k → (ok' r b = true ↔ ok r b = true ∧ sbs (must r) b) := fun r b a1 a2 => H0 r b a1 (by omega)
    refine sumN_congr fun b _ => ?_
    have e0 := H0 (i + k) b (by omega) (by omega)
    by_cases h1 : ok (i + k) b = true ∧ sbs b S
    · rw [if_pos h1]
      by_cases h2 : sbs (must (i + k)) b
      · rw [if_pos ⟨e0.mpr ⟨h1.1, h2⟩, h1.2⟩]
        exact ih _ H4 (key b h1.1) H3
      · rw [if_neg (fun z => h2 (e0.mp z.1).2)]
        have : ∃ h, (must (i + k)).testBit h = true ∧ b.testBit h = false := by
          apply Classical.byContradiction
          intro hc
          refine h2 (sbs_iff.mpr fun h hh => ?_)
          apply Classical.byContradiction
          intro hb
          exact hc ⟨h, hh, Bool.eq_false_iff.mpr hb⟩
        obtain ⟨h, hh, hb⟩ := this
        refine Tc.lost (h := h) k (sd S b) ?_ (fun r b' hr1 hr2 hok => ?_)
        · rw [sd_bit, sbs_iff.mp (H1 (i + k) (by omega) (by omega)) h hh, hb]
          rfl
        · exact and_zero_iff.mp (and_comm0.mp (H2 (i + k) r b' (by omega) (by omega) hr1 (by omega) (by omega) hok)) h hh
    · rw [if_neg h1, if_neg (fun z => h1 ⟨(e0.mp z.1).1, z.2⟩)]
/-- none, where there is none -/
theorem Tc.pos {ok : Nat → Nat → Bool} {pr : Nat → Nat → Nat} {i : Nat} : ∀ k S, S < 256 → (0 < Tc ok i k S ↔ ∃ c, Tw (fun r b => ok r b = true) pr i k S c) := by
  intro k
  induction k with
  | zero =>
    intro S _
    show 0 < (if S = 0 then 1 else 0) ↔ ∃ c, S = 0 ∧ c = 0
    by_cases h : S = 0
    · rw [if_pos h]; exact ⟨fun _ => ⟨0, h, rfl⟩, fun _ => Nat.zero_lt_one⟩
    · rw [if_neg h]; exact ⟨fun z => absurd z (Nat.lt_irrefl _), fun ⟨_, z, _⟩ => absurd z h⟩
  | succ k ih =>
    intro S hS
    constructor
    · intro hpos
      have : ∃ b, b < 256 ∧ (ok (i + k) b ∧ sbs b S) ∧ 0 < Tc ok i k (sd S b) := by
        apply Classical.byContradiction
        intro hc
        have : sumN (fun b => if ok (i + k) b ∧ sbs b S then Tc ok i k (sd S b) else 0) 256 = 0 := by
          refine sumN_zero fun b hb => ?_
          by_cases h1 : ok (i + k) b ∧ sbs b S
          · rw [if_pos h1]
            exact Nat.eq_zero_of_not_pos fun z => hc ⟨b, hb, h1, z⟩
          · rw [if_neg h1]
        have h0 : Tc ok i (k + 1) S = 0 := this
        omega
      obtain ⟨b, hb, h1, h2⟩ := this
      obtain ⟨c, hc⟩ := (ih _ (sd_lt b hS)).mp h2
      exact ⟨_, b, c, h1.1, h1.2, hc, rfl⟩
    · rintro ⟨c, b, c', h1, h2, h3, -⟩
      have g1 := (ih _ (sd_lt b hS)).mpr ⟨c', h3⟩
      have g2 := sumN_ge (f := fun b => if ok (i + k) b ∧ sbs b S then Tc ok i k (sd S b) else 0) (sbs_lt h2 hS)
      rw [if_pos ⟨h1, h2⟩] at g2
      exact Nat.lt_of_lt_of_le g1 g2
/-- subsets, by how many are left -/
theorem sub_sum (x : Nat) : ∀ m S, m ≤ 8 → S < 2 ^ m → sumN (fun b => if sbs b S then x ^ pop (sd S b) else 0) (2 ^ m) = (x + 1) ^ pop S := by
  intro m
  induction m with
  | zero =>
    intro S _ hS
    have : S = 0 := by have : (2 : Nat) ^ 0 = 1 := rfl; omega
    subst this
    rfl
  | succ m ih =>
    intro S hm hS
    have hp : 2 ^ (m + 1) = 2 ^ m + 2 ^ m := by rw [Nat.pow_succ]; omega
    have hm8 : m < 8 := by omega
    have hpow : (2 ^ m).testBit m = true := Nat.testBit_two_pow_self
    rw [hp, sumN_split]
    by_cases hb : S < 2 ^ m
    · rw [ih S (by omega) hb]
      rw [sumN_zero (f := fun i => if sbs (2 ^ m + i) S then x ^ pop (sd S (2 ^ m + i)) else 0), Nat.add_zero]
      intro i hi'
      refine if_neg fun z => ?_
      have := sbs_le z
      omega
    · obtain ⟨T, rfl⟩ : ∃ T, S = 2 ^ m + T := ⟨S - 2 ^ m, by omega⟩
      have hT : T < 2 ^ m := by omega
      have bT : ∀ j, (2 ^ m + T).testBit j = ((decide (m = j)) || T.testBit j) := fun j => by
        rw [show 2 ^ m + T = 2 ^ m ||| T by rw [Nat.or_comm, Nat.or_two_pow_eq_add_of_lt hT, Nat.add_comm], Nat.testBit_or, bit_pow]
      have bi : ∀ i, i < 2 ^ m → ∀ j, (2 ^ m + i).testBit j = ((decide (m = j)) || i.testBit j) := fun i hi' j => by
        rw [show 2 ^ m + i = 2 ^ m ||| i by rw [Nat.or_comm, Nat.or_two_pow_eq_add_of_lt hi', Nat.add_comm], Nat.testBit_or, bit_pow]
      have tm : ∀ i, i < 2 ^ m → i.testBit m = false := fun i hi' => bit_lt hi' (Nat.le_refl m)
      have p1 : pop (2 ^ m + T) = pop T + 1 := by
        have := pop_or_and (2 ^ m) T
        rw [show 2 ^ m &&& T = 0 from and_zero_iff.mpr fun i hi' => by rw [bit_pow] at hi'; rw [← of_decide_eq_true hi']; exact tm T hT, pop_zero, pop_pow hm8, Nat.or_comm, Nat.or_two_pow_eq_add_of_lt hT, Nat.add_comm T] at this
        omega
      have q1 : sumN (fun b => if sbs b (2 ^ m + T) then x ^ pop (sd (2 ^ m + T) b) else 0) (2 ^ m) = x * sumN (fun b => if sbs b T then x ^ pop (sd T b) else 0) (2 ^ m) := by
        rw [← sumN_mul]
        refine sumN_congr fun b hb' => ?_
        have e : sbs b (2 ^ m + T) ↔ sbs b T := by
          rw [sbs_iff, sbs_iff]
          refine forall_congr' fun j => ?_
          rw [bT]
          by_cases hj : m = j
          · subst hj; rw [tm b hb']; simp
          · simp [hj]
        by_cases h1 : sbs b T
        · rw [if_pos (e.mpr h1), if_pos h1]
          have : sd (2 ^ m + T) b = 2 ^ m + sd T b := by
            apply Nat.eq_of_testBit_eq
            intro j
            have hl : sd T b < 2 ^ m := Nat.lt_of_le_of_lt (sbs_le (sbs_sd T b)) hT
            rw [sd_bit, bT, bi _ hl, sd_bit]
            by_cases hj : m = j
            · subst hj; rw [tm b hb']; simp
            · simp [hj]
          rw [this]
          have hl : sd T b < 2 ^ m := Nat.lt_of_le_of_lt (sbs_le (sbs_sd T b)) hT
          have := pop_or_and (2 ^ m) (sd T b)
          rw [show 2 ^ m &&& sd T b = 0 from and_zero_iff.mpr fun i hi' => by rw [bit_pow] at hi'; rw [← of_decide_eq_true hi']; exact tm _ hl, pop_zero, pop_pow hm8, Nat.or_comm, Nat.or_two_pow_eq_add_of_lt hl, Nat.add_comm (sd T b)] at this
          rw [show pop (2 ^ m + sd T b) = pop (sd T b) + 1 by omega, Nat.pow_succ, Nat.mul_comm]
        · rw [if_neg (fun z => h1 (e.mp z)), if_neg h1, Nat.mul_zero]
      have q2 : sumN (fun i => if sbs (2 ^ m + i) (2 ^ m + T) then x ^ pop (sd (2 ^ m + T) (2 ^ m + i)) else 0) (2 ^ m) = sumN (fun b => if sbs b T then x ^ pop (sd T b) else 0) (2 ^ m) := by
        refine sumN_congr fun b hb' => ?_
        have e : sbs (2 ^ m + b) (2 ^ m + T) ↔ sbs b T := by
          rw [sbs_iff, sbs_iff]
          refine forall_congr' fun j => ?_
          rw [bT, bi b hb']
          by_cases hj : m = j
          · subst hj; rw [tm b hb', tm T hT]; simp
          · simp [hj]
        have e2 : sd (2 ^ m + T) (2 ^ m + b) = sd T b := by
          apply Nat.eq_of_testBit_eq
          intro j
          rw [sd_bit, bT, bi b hb', sd_bit]
          by_cases hj : m = j
          · subst hj; rw [tm T hT]; simp
          · simp [hj]
        rw [e2]
        by_cases h1 : sbs b T
        · rw [if_pos (e.mpr h1), if_pos h1]
        · rw [if_neg (fun z => h1 (e.mp z)), if_neg h1]
      rw [q1, q2, ih T (by omega) hT, p1, Nat.pow_succ, Nat.mul_add, Nat.mul_one, Nat.mul_comm]
theorem Tc.le {ok : Nat → Nat → Bool} {i : Nat} : ∀ k S, S < 256 → Tc ok i k S ≤ k ^ pop S := by
  intro k
  induction k with
  | zero =>
    intro S hS
    show (if S = 0 then 1 else 0) ≤ 0 ^ pop S
    by_cases h : S = 0
    · subst h; exact Nat.le_refl _
    · rw [if_neg h]; exact Nat.zero_le _
  | succ k ih =>
    intro S hS
    rw [← sub_sum k 8 S (Nat.le_refl _) hS]
    refine sumN_le fun b _ => ?_
    by_cases h : sbs b S
    · rw [if_pos h]
      split
      · exact ih _ (sd_lt b hS)
      · exact Nat.zero_le _
    · rw [if_neg h, if_neg (fun z => h z.2)]
      exact Nat.le_refl _
theorem Tc.le8 {ok : Nat → Nat → Bool} {i k S : Nat} (hk' : k ≤ 8) (hS : S < 256) : Tc ok i k S ≤ 16777216 := by
  refine Nat.le_trans (Tc.le k S hS) ?_
  refine Nat.le_trans (Nat.pow_le_pow_left hk' _) ?_
  exact Nat.le_trans (Nat.pow_le_pow_right (by decide) (pop_le S)) (by decide)
