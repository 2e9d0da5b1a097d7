/-! PURE 83: the class reads a thing, a whole rule -/
section cthing
variable {σ τ υ : Hp} {c : Nat → Int32} {e p p0 deep n : Nat} {th : Nat → PR} {rc0 : (Option Nat) → Int32 → Hp → Option (Option Nat × Hp)} {rc1 : (Option Nat) → Hp → Option (Option Nat × Hp)}
theorem nw_hi {k m b : Nat} (h : b ≠ hn σ) : hi (nw σ k m) b = hi σ b := funext fun j => if_neg (show ¬ b = σ.1 from h)
theorem nw_hr {k m b : Nat} (h : b ≠ hn σ) : hr (nw σ k m) b = hr σ b := funext fun j => if_neg (show ¬ b = σ.1 from h)
theorem nw_ok {k m : Nat} : Ok (nw σ k m) (hn σ) k := ⟨Nat.lt_succ_self _, by show (if hn σ = hn σ then (k, m) else _).1 = k; rw [if_pos rfl]⟩
theorem nw_nk {k m : Nat} : NK σ (nw σ k m) := ⟨Nat.le_succ _, fun b hb => ⟨if_neg (show ¬ b = σ.1 from fun z => by have : b < σ.1 := hb; omega), fun _ _ => ⟨nw_hi (Nat.ne_of_lt hb), nw_hr (Nat.ne_of_lt hb)⟩⟩⟩
theorem NK.putI (h : NK σ τ) {a i : Nat} {v : Int32} (ha : hn σ ≤ a) : NK σ (wI τ a i v) := ⟨h.1, fun b hb => ⟨(h.2 b hb).1, fun k3 k6 => ⟨by rw [hi_ne (show b ≠ a by omega)]; exact ((h.2 b hb).2 k3 k6).1, ((h.2 b hb).2 k3 k6).2⟩⟩⟩
theorem NK.putR (h : NK σ τ) {a i : Nat} {v : Option Nat} (ha : hn σ ≤ a) : NK σ (wR τ a i v) := ⟨h.1, fun b hb => ⟨(h.2 b hb).1, fun k3 k6 => ⟨((h.2 b hb).2 k3 k6).1, by rw [hr_ne (show b ≠ a by omega)]; exact ((h.2 b hb).2 k3 k6).2⟩⟩⟩
theorem c_thing1 (he : Ends c e) (hd4 : deep ≤ 4) (hg0 : Gd (held c (thing c n (deep + 1))) e (e + 1 - n)) (hm1 : CC (rc1 (some 0)) (thing c n deep) c e (e + 1 - n) deep) (hm0 : deep < 4 → CC (rc0 (some 0) 0) (held c (thing c n (deep + 1))) c e (e + 1 - n) (deep + 1)) : CC (fb_X1_readsThing rc0 rc1 (some 0)) (thing c (n + 1) deep) c e (e + 1 - (n + 1)) deep := by
  intro σ p hs hne hp0
  have hgd := thing_good he (n + 1) deep p hp0 hs.2.2.2.1
  have hgn := thing_good he n deep
  have hpe := hs.2.2.2.1
  have h80 := hs.2.2.1
  have h4 := hs.2.2.2.2.1
  have o0 := so_0 hs.1
  have h69 := hs.1.1
  unfold fb_X1_readsThing
  rw [e_ob o0, c_takes hs (by decide), e_bnd, b2_ite]
  by_cases h1 : c p = 45
  · have hlt := he.lt h1 (by decide)
    have hs1 := hs.go (q := p + 1) hlt
    have hd := hgn (p + 1) (by omega) (by omega)
    obtain ⟨y, τ, t1, t2, t3, t4, t5⟩ := hm1 (atC σ (p + 1)) (p + 1) hs1 (by show hi (wI σ 0 11 _) 0 13 = _; rw [hi_ni (by decide)]; exact hne) (by omega)
    have t2' : NR σ τ ((thing c n deep (p + 1)).2 - (p + 1)) := by have := (NR.at (σ := σ) (q := p + 1)).trans t2; rw [Nat.zero_add] at this; exact this
    have e1 : thing c (n + 1) deep p = (match thing c n deep (p + 1) with
      | (none, q) => (none, q)
      | (some e, q) => (some (fun v => - e v), q)) := if_pos h1
    rw [e1] at hgd ⊢
    simp only [if_pos h1]
    rw [e_ob (so_0 hs1.1), t1, e_bnd]
    rcases hth : thing c n deep (p + 1) with ⟨z, q⟩
    rw [hth] at hd t2 t2' t3 t4 t5 hgd
    cases z with
    | none =>
      dsimp only at *
      obtain rfl := t4 rfl
      exact ⟨none, τ, rfl, t2'.le (by omega), t3, fun _ => rfl, fun E hE => by cases hE⟩
    | some g =>
      dsimp only at *
      obtain ⟨b, rfl, tb, tn⟩ := t5 g rfl
      have hτ := t2'.sh hs.1
      have h69' := hτ.1
      have hN : NR τ (wR (wR (nw τ 3 3) (hn τ) 1 (some 0)) (hn τ) 0 (some b)) 1 := ((NR.new (by decide)).putR (Nat.le_refl _)).putR (Nat.le_refl _)
      have hK : NK τ (wR (wR (nw τ 3 3) (hn τ) 1 (some 0)) (hn τ) 0 (some b)) := (nw_nk.putR (Nat.le_refl _)).putR (Nat.le_refl _)
      have e0 : hi (wR (wR (nw τ 3 3) (hn τ) 1 (some 0)) (hn τ) 0 (some b)) 0 = hi τ 0 := (show hi (nw τ 3 3) 0 = hi τ 0 from nw_hi (show 0 ≠ hn τ by omega))
      unfold nul nO
      dsimp only
      rw [e_nn, n5_init nw_ok, e_bnd]
      have hlt2 := hgd.2.2 (by simp)
      refine ⟨some (hn τ), _, rfl, (t2'.trans hN).le (by omega), by rw [e0]; exact t3, fun z => (by cases z), fun E hE => ?_⟩
      cases hE
      exact ⟨hn τ, rfl, (tr_less (σ := wR (wR (nw τ 3 3) (hn τ) 1 (some 0)) (hn τ) 0 (some b)) nw_ok hr_eq (tb.nk hK)).up (by omega), by rw [e0]; exact tn⟩
  · simp only [if_neg h1]
    rw [e_ob o0, c_isDigit hs, e_bnd, b2_ite]
    by_cases h2 : isDig (c p)
    · have e1 : thing c (n + 1) deep p = (some (fun _ => (pNum c 3 0 p).1), (pNum c 3 0 p).2) := by
        show (if c p = 45 then _ else if isDig (c p) then _ else _) = _
        rw [if_neg h1, if_pos h2]
      rw [e1] at hgd ⊢
      have hlt2 := hgd.2.2 (by simp)
      have hs0 : CS (nw σ 4 3) c e p := (NR.new (by decide)).cs hs (by rw [nw_hi (show 0 ≠ hn σ by omega)]; exact h4) hpe
      have en := c_number hs0 (k := 3) (by decide) h2
      rw [show nI 3 = (3 : Int32) from rfl] at en
      have hN : NR σ (wI (wR (atC (nw σ 4 3) (pNum c 3 0 p).2) (hn σ) 1 (some 0)) (hn σ) 0 (pNum c 3 0 p).1) 1 := ((((NR.new (by decide)).trans NR.at).le (by decide)).putR (Nat.le_refl _)).putI (Nat.le_refl _)
      have e0 : hi (wI (wR (atC (nw σ 4 3) (pNum c 3 0 p).2) (hn σ) 1 (some 0)) (hn σ) 0 (pNum c 3 0 p).1) 0 = hi (atC (nw σ 4 3) (pNum c 3 0 p).2) 0 := hi_ne (show 0 ≠ hn σ by omega)
      rw [if_pos h2]
      unfold nO
      dsimp only
      rw [e_ob (so_0 hs0.1), en, e_bnd, e_nn, n6_init (show Ok (atC (nw σ 4 3) (pNum c 3 0 p).2) (hn σ) 4 from nw_ok), e_bnd]
      dsimp only at hlt2 ⊢
      refine ⟨some (hn σ), _, rfl, hN.le (by omega), by rw [e0]; exact hi_eq, fun z => (by cases z), fun E hE => ?_⟩
      cases hE
      refine ⟨hn σ, rfl, (tr_number (σ := wI (wR (atC (nw σ 4 3) (pNum c 3 0 p).2) (hn σ) 1 (some 0)) (hn σ) 0 (pNum c 3 0 p).1) nw_ok hi_eq).up (by omega), ?_⟩
      rw [e0]
      show hi (wI (nw σ 4 3) 0 11 _) 0 13 = _
      rw [hi_ni (by decide), nw_hi (show 0 ≠ hn σ by omega)]
      exact hne
    · rw [if_neg h2, e_ob o0, c_among' hs (by decide), e_bnd]
      have hpl := pl_thing hs.val
      cases hl' : ltrI (c p) with
      | some k =>
        have e1 : thing c (n + 1) deep p = (some (fun v => v k), p + 1) := by
          show (if c p = 45 then _ else if isDig (c p) then _ else match ltrI (c p) with
            | some k => _
            | none => _) = _
          rw [if_neg h1, if_neg h2, hl']
        have hlt := he.lt rfl (let_ne hl')
        have hs1 := hs.go (q := p + 1) hlt
        rw [e1]
        have hn0 : ¬ plI 3 (c p) < 0 := fun z => by rw [hpl.mp z] at hl'; cases hl'
        have hs2 : CS (nw (atC σ (p + 1)) 5 3) c e (p + 1) := (NR.new (by decide)).cs hs1 (by rw [nw_hi (σ := atC σ (p + 1)) (show 0 ≠ hn σ by omega)]; exact hi_eq) hlt
        have h4' := hs2.2.2.2.2.1
        have hN : NR σ (wI (wR (nw (atC σ (p + 1)) 5 3) (hn σ) 1 (some 0)) (hn σ) 0 (c p)) 1 := ((((NR.at (q := p + 1)).trans (NR.new (by decide))).le (by decide)).putR (Nat.le_refl _)).putI (Nat.le_refl _)
        have e0 : hi (wI (wR (nw (atC σ (p + 1)) 5 3) (hn σ) 1 (some 0)) (hn σ) 0 (c p)) 0 = hi (atC σ (p + 1)) 0 := (hi_ne (show 0 ≠ hn σ by omega)).trans (show hi (nw (atC σ (p + 1)) 5 3) 0 = _ from nw_hi (σ := atC σ (p + 1)) (show 0 ≠ hn σ by omega))
        rw [if_neg hn0, e_gI o0, h4, e_pI o0, nI_1]
        rw [show wI σ 0 11 (nI (p + 1)) = atC σ (p + 1) from rfl]
        unfold nO
        dsimp only
        rw [e_gR (so_0 hs2.1), sp_0_9 hs2.1, e_gI (so_0 hs2.1), h4', l_sub1 (Nat.succ_pos p), show p.succ - 1 = p by omega, e_lI (so_10 hs2.1) (by rw [sl_10 hs2.1, inb_nI (by omega)]; omega), ix_nI (by omega), (hs2.2.2.2.2.2.2 p hlt).1, e_nn, show hn (atC σ (p + 1)) = hn σ from rfl, n7_init (show Ok (nw (atC σ (p + 1)) 5 3) (hn σ) 5 from nw_ok (σ := atC σ (p + 1))), e_bnd]
        refine ⟨some (hn σ), _, rfl, hN.le (by omega), by rw [e0]; exact hi_eq, fun z => (by cases z), fun E hE => ?_⟩
        cases hE
        refine ⟨hn σ, rfl, (tr_sign (σ := wI (wR (nw (atC σ (p + 1)) 5 3) (hn σ) 1 (some 0)) (hn σ) 0 (c p)) (nw_ok (σ := atC σ (p + 1))) hr_eq hi_eq hl').up (by omega), ?_⟩
        rw [e0]
        show hi (wI σ 0 11 _) 0 13 = _
        rw [hi_ni (by decide)]
        exact hne
      | none =>
        have e1 : thing c (n + 1) deep p = (if c p = 40 ∧ deep < 4 then (match held c (thing c n (deep + 1)) (p + 1) with
          | (none, q) => (none, q)
          | (some e, q) => if c q = 41 then (some e, q + 1) else (none, q)) else (none, p)) := by
          show (if c p = 45 then _ else if isDig (c p) then _ else match ltrI (c p) with
            | some k => _
            | none => _) = _
          rw [if_neg h1, if_neg h2, hl']
          rfl
        rw [e1] at hgd ⊢
        rw [if_pos (hpl.mpr hl'), e_ob o0, c_isAt hs (by decide), e_bnd]
        unfold jn
        dsimp only
        rw [b2_ite]
        have no : ∃ y τ, some ((none : Option Nat), σ) = some (y, τ) ∧ NR σ τ (p - p) ∧ hi τ 0 11 = nI p ∧ ((none : Option RE) = none → y = none) ∧ ∀ E, (none : Option RE) = some E → ∃ a, y = some a ∧ TR τ (p - p) a E ∧ hi τ 0 13 = nI deep := ⟨none, σ, rfl, NR.refl.le (by omega), h4, fun _ => rfl, fun E hE => by cases hE⟩
        by_cases h3 : c p = 40
        · rw [if_pos h3, e_gI o0, hne]
          by_cases h5 : deep = 4
          · rw [if_pos (by rw [h5]; rfl), if_neg (fun z => by omega)]
            exact no
          · have hlt := he.lt h3 (by decide)
            rw [if_neg (by rw [n_4, nI_eq_l (by omega) (by decide)]; exact h5), if_pos ⟨h3, by omega⟩]
            rw [if_pos ⟨h3, by omega⟩] at hgd
            have hs1 := hs.go (q := p + 1) hlt
            have hN0 : NR σ (wI (atC σ (p + 1)) 0 13 (nI (deep + 1))) 0 := (NR.at (q := p + 1)).trans NR.nest
            have e11 : hi (wI (atC σ (p + 1)) 0 13 (nI (deep + 1))) 0 11 = nI (p + 1) := by rw [hi_ni (by decide)]; exact hi_eq
            have hs2 : CS (wI (atC σ (p + 1)) 0 13 (nI (deep + 1))) c e (p + 1) := hN0.cs hs e11 hlt
            have hd := hg0 (p + 1) (by omega) (by omega)
            obtain ⟨y, τ, t1, t2, t3, t4, t5⟩ := hm0 (by omega) (wI (atC σ (p + 1)) 0 13 (nI (deep + 1))) (p + 1) hs2 hi_eq (by omega)
            have t2' : NR σ τ ((held c (thing c n (deep + 1)) (p + 1)).2 - (p + 1)) := by have := hN0.trans t2; rw [Nat.zero_add] at this; exact this
            rw [e_gI o0, h4, e_pI o0, nI_1]
            rw [show wI σ 0 11 (nI (p + 1)) = atC σ (p + 1) from rfl, e_gI (so_0 hs1.1), show hi (atC σ (p + 1)) 0 13 = nI deep from (by show hi (wI σ 0 11 _) 0 13 = _; rw [hi_ni (by decide)]; exact hne), e_pI (so_0 hs1.1), nI_1, e_ob (so_0 hs2.1), t1, e_bnd]
            rcases hth : held c (thing c n (deep + 1)) (p + 1) with ⟨z, q⟩
            rw [hth] at hd t2 t2' t3 t4 t5 hgd
            cases z with
            | none =>
              dsimp only at *
              obtain rfl := t4 rfl
              exact ⟨none, τ, rfl, t2'.le (by omega), t3, fun _ => rfl, fun E hE => by cases hE⟩
            | some g =>
              dsimp only at *
              obtain ⟨b, rfl, tb, tn⟩ := t5 g rfl
              have hs3 := t2'.cs hs t3 hd.2.1
              unfold nul
              dsimp only
              rw [e_ob (so_0 hs3.1), c_takes hs3 (by decide), e_bnd, b2_ite]
              by_cases h6 : c q = 41
              · have hlt6 := he.lt h6 (by decide)
                have hs4 := hs3.go (q := q + 1) hlt6
                simp only [if_pos h6]
                rw [e_gI (so_0 hs4.1), show hi (atC τ (q + 1)) 0 13 = nI (deep + 1) from (by show hi (wI τ 0 11 _) 0 13 = _; rw [hi_ni (by decide)]; exact tn), l_sub1 (Nat.succ_pos deep), show deep.succ - 1 = deep by omega, e_pI (so_0 hs4.1)]
                have hN3 : NR τ (wI (atC τ (q + 1)) 0 13 (nI deep)) 0 := (NR.at (q := q + 1)).trans NR.nest
                refine ⟨some b, _, rfl, (t2'.trans hN3).le (by omega), by rw [hi_ni (by decide)]; exact hi_eq, fun z => (by cases z), fun E hE => ?_⟩
                cases hE
                exact ⟨b, rfl, (tb.nk (hN3.nk hs3.1)).up (by omega), hi_eq⟩
              · simp only [if_neg h6]
                exact ⟨none, τ, rfl, t2'.le (by omega), t3, fun _ => rfl, fun E hE => by cases hE⟩
        · rw [if_neg h3, if_neg (fun z => h3 z.1)]
          exact no
theorem c_top {m : Nat} (he : Ends c e) (he40 : e ≤ 40) (hg : Gd th e p0) (hm : CC ((g_reads m).2 (some 0)) th c e p0 deep) : CC ((g_reads (m + 4)).1 (some 0) 0) (held c th) c e p0 deep := by
  have h3 : CC ((g_reads (m + 1)).1 (some 0) (nI 2 + 1)) th c e p0 deep := by
    rw [show nI 2 + 1 = (3 : Int32) by decide]
    exact c_rank3 (rc0 := (g_reads m).1) (rc1 := (g_reads m).2) hm
  have h2 : CC ((g_reads (m + 2)).1 (some 0) (nI 1 + 1)) (lev c 42 47 th) c e p0 deep := by
    rw [show nI 1 + 1 = nI 2 by decide]
    exact c_rank (rc0 := (g_reads (m + 1)).1) (rc1 := (g_reads (m + 1)).2) (v1 := 2) (x := 6) (Or.inr rfl) he40 hg h3 (by decide) (fun σ => by unfold f_X1_acts; rw [if_neg (by decide), if_neg (by decide)]) (fun p hv => (pl_ops hv).2.2.1) ⟨by decide, by decide⟩
  have h1 : CC ((g_reads (m + 3)).1 (some 0) (0 + 1)) (lev c 43 45 (lev c 42 47 th)) c e p0 deep := by
    rw [show (0 : Int32) + 1 = nI 1 by decide]
    exact c_rank (rc0 := (g_reads (m + 2)).1) (rc1 := (g_reads (m + 2)).2) (v1 := 1) (x := 5) (Or.inl rfl) he40 (lev_good he hg ⟨by decide, by decide⟩) h2 (by decide) (fun σ => by unfold f_X1_acts; rw [if_neg (by decide), if_pos (by decide)]) (fun p hv => (pl_ops hv).2.1) ⟨by decide, by decide⟩
  exact c_rank0 (rc0 := (g_reads (m + 3)).1) (rc1 := (g_reads (m + 3)).2) he hg h1
theorem c_thing_all (he : Ends c e) (he40 : e ≤ 40) : ∀ n deep m, n + 4 * (4 - deep) ≤ m → deep ≤ 4 → CC ((g_reads m).2 (some 0)) (thing c n deep) c e (e + 1 - n) deep := by
  intro n
  induction n with
  | zero => intro deep m _ _ σ p h hne h0; have := h.2.2.2.1; omega
  | succ n ih =>
    intro deep m hm hd
    obtain ⟨m, rfl⟩ : ∃ m', m = m' + 1 := ⟨m - 1, by omega⟩
    refine c_thing1 (rc0 := (g_reads m).1) (rc1 := (g_reads m).2) he hd (held_good he (thing_good he n (deep + 1))) (ih deep m (by omega) hd) (fun h4 => ?_)
    obtain ⟨m, rfl⟩ : ∃ m', m = m' + 4 := ⟨m - 4, by omega⟩
    exact c_top he he40 (thing_good he n (deep + 1)) (ih (deep + 1) m (by omega) (by omega))
theorem c_readsAll (he40 : e ≤ 40) (h : CS σ c e 0) (hne : hi σ 0 13 = 0) : ∃ y τ, f_X1_reads 200 (some 0) 0 σ = some (y, τ) ∧ NR σ τ (ruleP c).2 ∧ hi τ 0 11 = nI (ruleP c).2 ∧ ((ruleP c).1 = none → y = none) ∧ ∀ E, (ruleP c).1 = some E → ∃ a, y = some a ∧ TR τ 60 a E := by
  have he := h.2.1
  obtain ⟨y, τ, t1, t2, t3, t4, t5⟩ := c_top he he40 (thing_good he 45 0) (c_thing_all he he40 45 0 196 (by decide) (by decide)) σ 0 h hne (by omega)
  refine ⟨y, τ, t1, t2, t3, t4, fun E hE => ?_⟩
  obtain ⟨a, a1, a2, a3⟩ := t5 E hE
  have := (ruleP_good he he40).1
  exact ⟨a, a1, a2.up (by unfold ruleP at this; omega)⟩
end cthing
