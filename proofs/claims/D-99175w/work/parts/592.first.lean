/-! PURE 118: the heap at the law's loop holds the view of the start -/
def aZ : HS := (fun _ => -1, fun _ => 0, 0, 0, 0, 0)
def VI : VS := ((0, 8, 4, fun _ => 0, fun _ => 0, fun _ => 0, none), aZ, (0, fun _ => 0), (0, fun _ => aZ), fun _ => none, (0, fun _ => 0, fun _ => 0, fun _ => false), [], 0)
set_option maxRecDepth 100000 in
theorem hpI_c : (hi hpI 0 5 = 0 ∧ hi hpI 0 6 = 8 ∧ hi hpI 0 7 = 4 ∧ hr hpI 0 21 = none) ∧ (hi hpI 1 2 = 0 ∧ hi hpI 1 3 = 0 ∧ hi hpI 1 4 = 0 ∧ hi hpI 1 5 = 0) ∧ (∀ i, i < 8 → hi hpI 2 i = -1 ∧ hi hpI 3 i = 0) ∧ (hi hpI 0 42 = 1000000 ∧ hi hpI 27 0 = 0 ∧ hi hpI 0 10 = 0 ∧ hi hpI 0 25 = 0 ∧ hi hpI 0 44 = 0 ∧ hi hpI 0 52 = 0 ∧ hi hpI 0 8 = 0) ∧ (∀ i, i < 12 → hr hpI 14 i = none) ∧ (∀ i, i < 2 → hr hpI 34 i = none) := by decide +kernel
set_option maxRecDepth 100000 in
theorem hpI_m : (hi hpI 37 3 = 0 ∧ hi hpI 37 1 = 8 ∧ hi hpI 37 2 = 4 ∧ hi hpI 37 20 = 0) ∧ (∀ i, i < 8 → hi hpI 38 i = -1 ∧ hi hpI 38 (8 + i) = 0 ∧ hi hpI 38 (16 + i) = 0) ∧ (hi hpI 38 24 = 0 ∧ hi hpI 38 25 = 0 ∧ hi hpI 38 26 = 0) ∧ (hi hpI 37 39 = 1000000000 ∧ hi hpI 37 8 = 0 ∧ hr hpI 37 18 = some 45 ∧ hr hpI 37 19 = some 46) ∧ (hi hpI 37 24 = 0 ∧ hi hpI 37 45 = 0 ∧ hi hpI 37 44 = 0 ∧ hi hpI 37 10 = 0 ∧ hi hpI 37 47 = 0) ∧ (∀ i, i < 2 → hi hpI 66 i = 0) := by decide +kernel
theorem aZ_ok : HOK 0 aZ := ⟨by decide, fun _ _ => Or.inl rfl⟩
theorem PI_ok : POK VI.P := ⟨Nat.zero_le _, ⟨by decide, by decide⟩, by decide, fun _ => ⟨Nat.zero_le _, Nat.zero_le _, (show (0 : Nat) < 256 by decide)⟩⟩
theorem VI_ok : VOK VI := ⟨⟨Nat.zero_le _, fun p hp => absurd hp (Nat.not_lt_zero _)⟩, ⟨Nat.zero_le _, fun p hp => absurd hp (Nat.not_lt_zero _)⟩, fun i b _ h => (by cases h), Nat.zero_le _, fun k hk' => absurd hk' (Nat.not_lt_zero _)⟩
theorem CV_I : CV hpI VI := by
  obtain ⟨⟨p1, p2, p3, p4⟩, ⟨h1, h2, h3, h4⟩, h5, ⟨s1, s2, t1, u1, f1, r1, c1⟩, u2, u3⟩ := hpI_c
  have sl : ∀ i, i < 14 → slt hpI i = none := fun i hi' => by
    unfold slt
    by_cases e : i < 12
    · rw [if_pos e]; exact u2 i e
    · rw [if_neg e]; exact u3 _ (by omega)
  refine ⟨⟨hpI_Sh, ⟨p1, p2, p3, fun r hr' => absurd hr' (Nat.not_lt_zero _), p4⟩, PI_ok, ⟨ho_1 hpI_Sh, fun h hh => (h5 h hh).1, fun r hr' => (h5 r hr').2, h1, h2, h3, h4⟩, aZ_ok⟩, ⟨s1, s2⟩, ⟨t1, fun p hp => absurd hp (Nat.not_lt_zero _)⟩, ⟨⟨u1, Nat.zero_le _⟩, ⟨fun i hi' s hs => ?_, fun i j s hi' hj e1 e2 => ?_⟩, fun k hk' => absurd hk' (Nat.not_lt_zero _), fun i hi' => u3 i hi'⟩, ⟨f1, fun k hk' => absurd hk' (Nat.not_lt_zero _)⟩, ⟨r1, by decide, fun k hk' => absurd hk' (Nat.not_lt_zero _)⟩, c1⟩
  · rw [sl i hi'] at hs; cases hs
  · rw [sl i hi'] at e1; cases e1
theorem MW_I : MW hpI VI := by
  obtain ⟨⟨p1, p2, p3, p4⟩, h5, ⟨h2, h3, h4⟩, ⟨s1, t1, t2, t3⟩, ⟨u1, f1, f2, r1, c1⟩, u3⟩ := hpI_m
  refine ⟨⟨hpI_Sh, ⟨p1, p2, p3, fun r hr' => absurd hr' (Nat.not_lt_zero _), p4⟩, PI_ok, ⟨fun i hi' => ?_, fun i hi' => ?_, fun i hi' => ?_, h2, h3, h4⟩, aZ_ok⟩, s1, ⟨t1, fun p hp => absurd hp (Nat.not_lt_zero _), t2, t3⟩, ⟨u1, fun k hk' => absurd hk' (Nat.not_lt_zero _), fun i hi' => u3 i hi'⟩, ⟨f1, fun k hk' => absurd hk' (Nat.not_lt_zero _), 0, by decide, f2, fun k hk' => absurd hk' (Nat.not_lt_zero _)⟩, ⟨r1, by decide, fun k hk' => absurd hk' (Nat.not_lt_zero _)⟩, c1⟩
  · rw [Nat.zero_add]; exact (h5 i hi').1
  · rw [Nat.zero_add]; exact (h5 i hi').2.1
  · rw [Nat.zero_add, (h5 i hi').2.2]
    show (0 : Int32) = if Nat.testBit 0 i then 1 else 0
    rw [Nat.zero_testBit]; rfl
theorem JV_I : JV hpI VI := ⟨CV_I, MW_I, VI_ok⟩
set_option maxRecDepth 100000 in
theorem init_37 : (f_X1_init (some 0) (nw hp0 0 53)).map (fun q => hn q.2) = some 37 := by decide +kernel
theorem z_nO {γ : Type} {c n : Nat} {σ : Hp} {K : Option Nat → Hp → Option γ} : nO c n σ K = K (some (hn σ)) (nw σ c n) := rfl
theorem z_nn {α : Type} {a : Nat} {K : Option α} : nn (some a) K = K := rfl
theorem z_nA1 {γ : Type} {t : Nat} {σ : Hp} {K : Option Nat → Hp → Option γ} : nA t σ 1 K = K (some (hn σ)) (nw σ t 1) := by
  unfold nA
  rw [if_pos (by decide)]
  rfl
theorem law_first {L : Nat} {xs : Nat → Int32} : f_L_law L xs hp0 = lp 2000 (f_L_law_b23 L xs (some 0) (some 37) (some 68) (fun (_ : Unit) σ => lwr 1 σ)) 0 hpI := by
  have h1 := init_37
  have n0 : hn hp0 = 0 := rfl
  have ok := hpI_ok
  have hn' := hpI_n.1
  cases e1 : f_X1_init (some 0) (nw hp0 0 53) with
  | none => rw [e1] at h1; cases h1
  | some q =>
    obtain ⟨u, σ1⟩ := q
    rw [e1] at h1
    have n1 : hn σ1 = 37 := Option.some.inj h1
    have hp : lwPre hp0 = bnd (f_X3_init (some 37) (nw σ1 2 51)) fun _ σ => nA 103 σ 1 fun _ σ => some ((), σ) := by
      unfold lwPre
      rw [z_nO]
      rw [n0, z_nn, e1, e_bnd, z_nO]
      rw [n1, z_nn]
    cases e2 : f_X3_init (some 37) (nw σ1 2 51) with
    | none => rw [hp, e2] at ok; cases ok
    | some q2 =>
      obtain ⟨u2, σ2⟩ := q2
      have e3 : hpI = nw σ2 103 1 := by
        unfold hpI
        rw [hp, e2, e_bnd, z_nA1]
        rfl
      have n2 : hn σ2 = 68 := by
        rw [e3] at hn'
        have : hn σ2 + 1 = 69 := hn'
        omega
      rw [e3]
      unfold f_L_law
      rw [z_nO]
      rw [n0, z_nn, e1, e_bnd, z_nO]
      rw [n1, z_nn, e2, e_bnd, z_nA1]
      rw [n2]
