/-! PURE 72: there is a smoothest row just if there is a rota -/
section twd
variable {ok ok' : Nat → Nat → Prop} {pr : Nat → Nat → Nat}
theorem sd_sd_pow {S b h : Nat} (hb : b.testBit h = true) : sd (sd S (2 ^ h)) (sd b (2 ^ h)) = sd S b := by
  apply Nat.eq_of_testBit_eq
  intro i
  rw [sd_bit, sd_bit, sd_bit, sd_bit, bit_pow]
  by_cases e : h = i
  · subst e; rw [hb]; simp
  · rw [decide_eq_false e]; simp
theorem or_pow_sd {S b h : Nat} (hS : S.testBit h = false) : sd (S ||| 2 ^ h) (b ||| 2 ^ h) = sd S b := by
  apply Nat.eq_of_testBit_eq
  intro i
  rw [sd_bit, sd_bit, Nat.testBit_or, Nat.testBit_or, bit_pow]
  by_cases e : h = i
  · subst e; rw [hS]; simp
  · rw [decide_eq_false e]; simp
theorem or_pow_sd' {S b h : Nat} (hb : b.testBit h = false) : sd (S ||| 2 ^ h) b = sd S b ||| 2 ^ h := by
  apply Nat.eq_of_testBit_eq
  intro i
  rw [sd_bit, Nat.testBit_or, Nat.testBit_or, sd_bit, bit_pow]
  by_cases e : h = i
  · subst e; rw [hb]; simp
  · rw [decide_eq_false e]; simp
theorem Tw.drop {h : Nat} : ∀ k S c, Tw ok pr 0 k S c → S.testBit h = true → ∃ r c', r < k ∧ (∃ b, ok r b ∧ b.testBit h = true) ∧ Tw (fun o b => if o = r then b.testBit h = false ∧ ok r (b ||| 2 ^ h) else ok o b) pr 0 k (sd S (2 ^ h)) c' := by
  intro k
  induction k with
  | zero => intro S c ht hS; rw [ht.1, Nat.zero_testBit] at hS; cases hS
  | succ k ih =>
    intro S c ht hS
    obtain ⟨b, c1, h1, h2, h3, h4⟩ := ht
    rw [Nat.zero_add] at h1
    by_cases hb : b.testBit h = true
    · refine ⟨k, c1 + pr (0 + k) (sd b (2 ^ h)), by omega, ⟨b, h1, hb⟩, sd b (2 ^ h), c1, ?_, ?_, ?_, rfl⟩
      · rw [Nat.zero_add]
        dsimp only
        rw [if_pos rfl]
        refine ⟨by rw [sd_bit, bit_pow, decide_eq_true rfl, Bool.not_true, Bool.and_false], ?_⟩
        rw [sd_or_self (sbs_pow hb)]; exact h1
      · refine sbs_iff.mpr fun i hi' => ?_
        rw [sd_bit, Bool.and_eq_true] at hi' ⊢
        exact ⟨sbs_iff.mp h2 i hi'.1, hi'.2⟩
      · rw [sd_sd_pow hb]
        refine Tw.mono _ _ _ (fun r b' _ hr' _ ho => ?_) h3
        rw [if_neg (by omega)]
        exact ⟨ho, rfl⟩
    · have hb' : b.testBit h = false := Bool.eq_false_iff.mpr hb
      obtain ⟨r, c', g1, g2, g3⟩ := ih (sd S b) c1 h3 (by rw [sd_bit, hS, hb']; rfl)
      refine ⟨r, c' + pr (0 + k) b, by omega, g2, b, c', ?_, ?_, ?_, rfl⟩
      · rw [Nat.zero_add]
        dsimp only
        rw [if_neg (by omega)]; exact h1
      · refine sbs_iff.mpr fun i hi' => ?_
        rw [sd_bit, bit_pow, sbs_iff.mp h2 i hi']
        rw [decide_eq_false (fun e => by subst e; rw [hb'] at hi'; cases hi')]; rfl
      · rw [sd_comm]; exact g3
theorem Tw.put {h : Nat} : ∀ k S c r, r < k → S.testBit h = false → (∀ b, b.testBit h = false → ok' r b → ok r (b ||| 2 ^ h)) → (∀ o b, o ≠ r → ok' o b → ok o b) → Tw ok' pr 0 k S c → ∃ c', Tw ok pr 0 k (S ||| 2 ^ h) c' := by
  intro k
  induction k with
  | zero => intro S c r hr'; exact absurd hr' (Nat.not_lt_zero _)
  | succ k ih =>
    intro S c r hr' hS g1 g2 ht
    obtain ⟨b, c1, h1, h2, h3, h4⟩ := ht
    rw [Nat.zero_add] at h1
    have hb : b.testBit h = false := by
      cases hb : b.testBit h
      · rfl
      · rw [sbs_iff.mp h2 h hb] at hS; cases hS
    by_cases e : r = k
    · subst e
      refine ⟨c1 + pr (0 + r) (b ||| 2 ^ h), b ||| 2 ^ h, c1, by rw [Nat.zero_add]; exact g1 b hb h1, ?_, ?_, rfl⟩
      · exact sbs_or (sbs_iff.mpr fun i hi' => by rw [Nat.testBit_or, sbs_iff.mp h2 i hi']; rfl) (sbs_iff.mpr fun i hi' => by rw [Nat.testBit_or, hi', Bool.or_true])
      · rw [or_pow_sd hS]
        exact Tw.mono _ _ _ (fun o b' _ ho _ hk' => ⟨g2 o b' (by omega) hk', rfl⟩) h3
    · obtain ⟨c', g3⟩ := ih (sd S b) c1 r (by omega) (by rw [sd_bit, hS]; rfl) g1 g2 h3
      refine ⟨c' + pr (0 + k) b, b, c', by rw [Nat.zero_add]; exact g2 k b (fun z => e z.symm) h1, ?_, ?_, rfl⟩
      · exact sbs_iff.mpr fun i hi' => by rw [Nat.testBit_or, sbs_iff.mp h2 i hi']; rfl
      · rw [or_pow_sd' hb]; exact g3
theorem Tw.zero : ∀ k, (∀ r, r < k → ok r 0) → ∃ c, Tw ok pr 0 k 0 c := by
  intro k
  induction k with
  | zero => intro _; exact ⟨0, rfl, rfl⟩
  | succ k ih =>
    intro h
    obtain ⟨c, hc⟩ := ih (fun r hr' => h r (by omega))
    exact ⟨c + pr (0 + k) 0, 0, c, by rw [Nat.zero_add]; exact h k (by omega), sbs_zero _, by rw [sd_zero]; exact hc, rfl⟩
end twd
theorem bet_none {x y : SO} : bet x y = none ↔ x = none ∧ y = none := by
  cases x with
  | none => cases y <;> simp [bet]
  | some a =>
    cases y with
    | none => simp [bet]
    | some b =>
      by_cases h : b.1 < a.1
      · simp [bet_lt h]
      · simp [bet_ge h]
theorem bestR_iff {f : Nat → SO} : ∀ n, bestR f n = none ↔ ∀ r, r < n → f r = none := by
  intro n
  induction n with
  | zero => exact ⟨fun _ r hr' => absurd hr' (Nat.not_lt_zero _), fun _ => rfl⟩
  | succ n ih =>
    show bet (bestR f n) (f n) = none ↔ _
    rw [bet_none, ih]
    constructor
    · rintro ⟨h1, h2⟩ r hr'
      by_cases e : r = n
      · rw [e]; exact h2
      · exact h1 r (by omega)
    · intro h; exact ⟨fun r hr' => h r (by omega), h n (by omega)⟩
theorem addS_none {v r : Nat} {o : SO} : addS v r o = none ↔ o = none := by
  cases o <;> simp [addS]
/-- hours h .. h + k - 1 -/
def hrS (h k : Nat) : Nat := sd (2 ^ (h + k) - 1) (2 ^ h - 1)
theorem hrS_bit (h k i : Nat) : (hrS h k).testBit i = (decide (h ≤ i) && decide (i < h + k)) := by
  unfold hrS
  rw [sd_bit, all_bit, all_bit]
  by_cases h1 : i < h
  · rw [decide_eq_true h1, decide_eq_false (show ¬ h ≤ i by omega)]; simp
  · rw [decide_eq_false h1, decide_eq_true (show h ≤ i by omega)]; simp
theorem hrS_zero (h : Nat) : hrS h 0 = 0 := by
  apply Nat.eq_of_testBit_eq
  intro i
  rw [hrS_bit, Nat.zero_testBit]
  by_cases h1 : h ≤ i
  · rw [decide_eq_false (show ¬ i < h + 0 by omega), Bool.and_false]
  · rw [decide_eq_false h1, Bool.false_and]
theorem hrS_drop (h k : Nat) : sd (hrS h (k + 1)) (2 ^ h) = hrS (h + 1) k := by
  apply Nat.eq_of_testBit_eq
  intro i
  rw [sd_bit, hrS_bit, hrS_bit, bit_pow]
  by_cases e : h = i
  · subst e; rw [decide_eq_true rfl, decide_eq_false (show ¬ h + 1 ≤ h by omega)]; simp
  · rw [decide_eq_false e, Bool.not_false, Bool.and_true]
    congr 1
    · exact decide_eq_decide.mpr (by omega)
    · exact decide_eq_decide.mpr (by omega)
theorem hrS_put (h k : Nat) : hrS (h + 1) k ||| 2 ^ h = hrS h (k + 1) := by
  apply Nat.eq_of_testBit_eq
  intro i
  rw [Nat.testBit_or, hrS_bit, hrS_bit, bit_pow]
  by_cases e : h = i
  · subst e; rw [decide_eq_true rfl, decide_eq_true (Nat.le_refl h), decide_eq_true (show h < h + (k + 1) by omega), Bool.or_true]; rfl
  · rw [decide_eq_false e, Bool.or_false]
    congr 1
    · exact decide_eq_decide.mpr (by omega)
    · exact decide_eq_decide.mpr (by omega)
theorem pop_or_pow {b h : Nat} (hh : h < 8) (hb : b.testBit h = false) : pop (b ||| 2 ^ h) = pop b + 1 := by
  have h1 := pop_or_and b (2 ^ h)
  have h2 : b &&& 2 ^ h = 0 := and_zero_iff.mpr fun i hi' => by
    rw [bit_pow]
    exact decide_eq_false (fun e => by subst e; rw [hb] at hi'; cases hi')
  rw [h2, pop_zero, pop_pow hh] at h1
  omega
theorem smo_iff {P : Pk} {may : Nat → Nat} {pr : Nat → Nat → Nat} : ∀ k h rode last, h + k ≤ 8 → (∀ r, r < P.n → rode r ≤ P.most r) → (smo P may k h rode last ≠ none ↔ ∃ c, Tw (fun r b => sbs b (may r) ∧ pop b + rode r ≤ P.most r) pr 0 P.n (hrS h k) c) := by
  intro k
  induction k with
  | zero =>
    intro h rode last _ hm
    rw [hrS_zero]
    refine ⟨fun _ => Tw.zero _ (fun r hr' => ⟨sbs_zero _, by rw [pop_zero, Nat.zero_add]; exact hm r hr'⟩), fun _ => ?_⟩
    intro e; cases e
  | succ k ih =>
    intro h rode last hk' hm
    have st : smo P may (k + 1) h rode last = bestR (fun r => if (may r).testBit h = true ∧ rode r ≠ P.most r then addS (apt P h r last) r (smo P may k (h + 1) (up1 rode r (rode r + 1)) r) else none) P.n := rfl
    have e1 : smo P may (k + 1) h rode last ≠ none ↔ ∃ r, r < P.n ∧ (may r).testBit h = true ∧ rode r ≠ P.most r ∧ smo P may k (h + 1) (up1 rode r (rode r + 1)) r ≠ none := by
      rw [st]
      constructor
      · intro hne
        refine Classical.byContradiction fun hno => hne ((bestR_iff _).mpr fun r hr' => ?_)
        by_cases c : (may r).testBit h = true ∧ rode r ≠ P.most r
        · rw [if_pos c, addS_none]
          refine Classical.byContradiction fun g => hno ⟨r, hr', c.1, c.2, g⟩
        · rw [if_neg c]
      · rintro ⟨r, a1, a2, a3, a4⟩ hno
        have := (bestR_iff _).mp hno r a1
        rw [if_pos ⟨a2, a3⟩, addS_none] at this
        exact a4 this
    have hup : ∀ r, r < P.n → rode r ≠ P.most r → ∀ o, o < P.n → up1 rode r (rode r + 1) o ≤ P.most o := fun r hr' hne o ho => by
      unfold up1
      by_cases e : o = r
      · rw [if_pos e, e]; have := hm r hr'; omega
      · rw [if_neg e]; exact hm o ho
    rw [e1]
    constructor
    · rintro ⟨r, a1, a2, a3, a4⟩
      obtain ⟨c, hc⟩ := (ih (h + 1) (up1 rode r (rode r + 1)) r (by omega) (hup r a1 a3)).mp a4
      have := Tw.put (ok := fun r b => sbs b (may r) ∧ pop b + rode r ≤ P.most r) (h := h) P.n _ _ r a1 (by rw [hrS_bit, decide_eq_false (show ¬ h + 1 ≤ h by omega)]; rfl) (fun b hb ho => ?_) (fun o b hne ho => ?_) hc
      · rw [hrS_put] at this; exact this
      · refine ⟨sbs_or ho.1 (sbs_pow a2), ?_⟩
        have h2 := ho.2
        unfold up1 at h2
        rw [if_pos rfl] at h2
        rw [pop_or_pow (by omega) hb]
        omega
      · have h2 := ho.2
        unfold up1 at h2
        rw [if_neg hne] at h2
        exact ⟨ho.1, h2⟩
    · rintro ⟨c, hc⟩
      obtain ⟨r, c', a1, ⟨b, b1, b2'⟩, a3⟩ := Tw.drop (h := h) P.n _ _ hc (by rw [hrS_bit, decide_eq_true (Nat.le_refl h), decide_eq_true (show h < h + (k + 1) by omega)]; rfl)
      rw [hrS_drop] at a3
      have hp : 0 < pop b := pop_pos b2' (by omega)
      have hne : rode r ≠ P.most r := by have := b1.2; omega
      refine ⟨r, a1, sbs_iff.mp b1.1 h b2', hne, (ih (h + 1) (up1 rode r (rode r + 1)) r (by omega) (hup r a1 hne)).mpr ⟨c', ?_⟩⟩
      refine Tw.mono _ _ _ (fun o b' _ ho hs hk2 => ⟨?_, rfl⟩) a3
      unfold up1
      by_cases e : o = r
      · rw [if_pos e] at hk2 ⊢
        obtain ⟨g1, g2, g3⟩ := hk2
        rw [pop_or_pow (by omega) g1] at g3
        subst e
        exact ⟨sbs_trans (sbs_iff.mpr fun i hi' => by rw [Nat.testBit_or, hi']; rfl) g2, by omega⟩
      · rw [if_neg e] at hk2 ⊢
        exact hk2
/-- the smoothest row of all -/
def smoO (P : Pk) (may : Nat → Nat) : SO := smo P may P.hrs 0 (fun _ => 0) 0
theorem smoO_iff {P : Pk} {may : Nat → Nat} (h8 : P.hrs ≤ 8) : smoO P may = none ↔ lstO P may 1000000 prZ = none := by
  have h1 := smo_iff (P := P) (may := may) (pr := fun r b => prS (prZ r) b) P.hrs 0 (fun _ => 0) 0 (by omega) (fun r _ => Nat.zero_le _)
  have h2 : hrS 0 P.hrs = 2 ^ P.hrs - 1 := by
    unfold hrS
    rw [Nat.zero_add, Nat.pow_zero, Nat.sub_self, sd_zero]
  rw [h2] at h1
  unfold smoO lstO
  rw [minO_none]
  constructor
  · intro hn' c hc
    refine h1.mpr ⟨c, Tw.mono _ _ _ (fun r b _ _ _ ho => ⟨⟨ho.1, ho.2.1⟩, rfl⟩) hc⟩ hn'
  · intro hno
    refine Classical.byContradiction fun g => ?_
    obtain ⟨c, hc⟩ := h1.mp g
    refine hno c (Tw.mono _ _ _ (fun r b _ _ _ ho => ⟨⟨ho.1, ho.2, ?_⟩, rfl⟩) hc)
    show prS (fun _ => 0) b ≤ _
    rw [prS_zero]; exact Nat.zero_le _
theorem smo_len {P : Pk} {may : Nat → Nat} : ∀ k h rode last x, smo P may k h rode last = some x → x.2.length = k ∧ x.1 ≤ 9 * k ∨ ∃ r, 9 < P.width r := by
  intro k
  induction k with
  | zero => intro h rode last x hx; cases hx; exact Or.inl ⟨rfl, Nat.le_refl _⟩
  | succ k ih =>
    intro h rode last x hx
    obtain ⟨q, h1, h2⟩ := bestR_mem P.n hx
    split at h2
    · cases hs : smo P may k (h + 1) (up1 rode q (rode q + 1)) q with
      | none => rw [hs] at h2; cases h2
      | some y =>
        rw [hs] at h2
        cases h2
        rcases ih _ _ _ _ hs with ⟨g1, g2⟩ | g
        · by_cases w1 : 9 < P.width q
          · exact Or.inr ⟨q, w1⟩
          · by_cases w2 : 9 < P.width last
            · exact Or.inr ⟨last, w2⟩
            · left
              refine ⟨by show y.2.length + 1 = k + 1; rw [g1], ?_⟩
              show apt P h q last + y.1 ≤ 9 * (k + 1)
              have : apt P h q last ≤ 9 := by
                unfold apt absd
                split
                · omega
                · split <;> omega
              omega
        · exact Or.inr g
    · cases h2
