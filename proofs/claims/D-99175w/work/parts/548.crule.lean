/-! PURE 93: a rule read from the text (the class) -/
def ruC (T : TX) : Nat → Int32 := fun p => if p < min T.1 40 then T.2 p else -1
def ruO (T : TX) : Option (Option RE) := if T.1 = 0 then some none else match (ruleP (ruC T)).1 with
  | none => none
  | some E => if (ruleP (ruC T)).2 = T.1 then some (some E) else none
def ruQ (T : TX) : Nat := (ruleP (ruC T)).2
def rlP (P : Pk) (o : Option RE) : Pk := (P.n, P.hrs, P.beats, P.most, P.width, P.can, o)
def ruR (V : VS) : Int32 × VS := match ruO V.T with
  | none => (-1 - nI (ruQ V.T), sT V (0, V.T.2))
  | some o => (0, sT (sP V (rlP V.P o)) (0, V.T.2))
/-- a rota's hardship -/
def rhI (P : Pk) (a : HS) : Nat → Int32
  | 0 => 0
  | h + 1 => rhI P a h + (if a.rota h = -1 then 0 else hardI P a (ix (a.rota h)) h)
def laR (V : VS) : Int32 × VS := match ruO V.T with
  | none => (-10000 - nI (ruQ V.T), sT V (0, V.T.2))
  | some o => (rhI (rlP V.P o) V.a V.P.hrs - rhI V.P V.a V.P.hrs, setw (sT V (0, V.T.2)) (some [(rhI (rlP V.P o) V.a V.P.hrs).toInt64, (rhI V.P V.a V.P.hrs).toInt64]))
theorem ends_cut (T : TX) (m : Nat) : Ends (fun p => if p < min T.1 m then T.2 p else -1) (min T.1 m) := fun p hp => if_neg (by omega)
theorem t0_ok {V : VS} (h : VOK V) : VOK (sT V (0, V.T.2)) := ⟨⟨Nat.zero_le _, fun p hp => absurd hp (Nat.not_lt_zero _)⟩, h.2⟩
theorem ru_ok {V : VS} (h : VOK V) : VOK (ruR V).2 := by
  unfold ruR
  split
  · exact t0_ok h
  · exact ⟨⟨Nat.zero_le _, fun p hp => absurd hp (Nat.not_lt_zero _)⟩, h.2⟩
theorem la_ok {V : VS} (h : VOK V) : VOK (laR V).2 := by
  unfold laR
  split
  · exact t0_ok h
  · exact ⟨⟨Nat.zero_le _, fun p hp => absurd hp (Nat.not_lt_zero _)⟩, h.2⟩
/-- what a pointer to a rule holds -/
def RR (σ : Hp) (y : Option Nat) (o : Option RE) : Prop := match o with
  | none => y = none
  | some E => ∃ b, y = some b ∧ TR σ 60 b E
section crule
variable {V : VS} {σ τ υ : Hp} {P : Pk} {a : HS} {T : TX} {c : Nat → Int32} {e p m n q : Nat} {o : Option RE} {y : Option Nat}
theorem RR.nk (h : RR σ y o) (g : NK σ τ) : RR τ y o := by
  cases o with
  | none => exact h
  | some E =>
    obtain ⟨b, h1, h2⟩ := h
    exact ⟨b, h1, h2.nk g⟩
theorem RC.rr (h : RC σ o) : RR σ (hr σ 0 21) o := by
  cases o with
  | none => exact h
  | some E => exact h
theorem CX.rl (x : CX σ P a) (h : RR σ y o) : CX (wR σ 0 21 y) (rlP P o) a := by
  have f : Fr [] [21] [] σ (wR σ 0 21 y) := Fr.refl.putR rfl
  have nk : NK σ (wR σ 0 21 y) := f.nk x.s rfl
  have rr := h.nk nk
  refine ⟨sw_21 x.s, ⟨x.2.1.1, x.2.1.2.1, x.2.1.2.2.1, x.2.1.2.2.2.1, ?_⟩, x.pk, x.2.2.2.1.fr f (by decide) (by decide) rfl rfl rfl, x.ok⟩
  show RC (wR σ 0 21 y) o
  cases o with
  | none => exact hr_eq.trans rr
  | some E =>
    obtain ⟨b, h1, h2⟩ := rr
    exact ⟨b, hr_eq.trans h1, h2⟩
theorem c_begun (hs : Sh σ) (t : TC σ T) (ok : TOK T) (m40 : m ≤ 80) : ∃ τ, f_X1_begins (some 0) (nI m) σ = some (nI T.1, τ) ∧ Fr [] [10, 11, 12, 13] [] σ τ ∧ hi τ 0 10 = 0 ∧ hi τ 0 13 = 0 ∧ CS τ (fun p => if p < min T.1 m then T.2 p else -1) (min T.1 m) 0 := by
  have t80 := ok.1
  refine ⟨_, (by rw [c_begins hs, t.1]), (((Fr.refl.putI rfl).putI rfl).putI rfl).putI rfl, ?_, ?_, ?_⟩
  · rw [hi_ni (by decide), hi_ni (by decide), hi_ni (by decide), hi_eq]
  · rw [hi_ni (by decide), hi_eq]
  · refine ⟨hs, ends_cut T m, by omega, Nat.zero_le _, ?_, ?_, fun q hq => ⟨?_, ?_⟩⟩
    · rw [hi_ni (by decide), hi_ni (by decide), hi_eq]; rfl
    · rw [hi_eq, nI_min (by omega) (by omega)]
    · rw [hi_ne (by decide), hi_ne (by decide), hi_ne (by decide), hi_ne (by decide), t.2 q (by omega)]
      exact (if_pos hq).symm
    · obtain ⟨k, a1, a2⟩ := ok.2 q (by omega)
      exact ⟨k, a1, by rw [← a2]; exact if_pos hq⟩
theorem c_faultOf (hs : Sh σ) (e11 : hi σ 0 11 = nI q) (e12 : hi σ 0 12 = nI e) (hqe : q ≤ e) (hen : e ≤ n) (hn' : n ≤ 80) {g : Int32} : f_X1_faultOf (some 0) (nI n) g σ = some (if g ≠ 0 ∧ q = n then 0 else -1 - nI q, σ) := by
  have o0 := so_0 hs
  have l10 : ¬ (1 : Int32) = 0 := by decide
  unfold f_X1_faultOf jn
  dsimp only
  by_cases hg : g = 0
  · have n1 : ¬ (g ≠ 0 ∧ q = n) := fun z => z.1 hg
    rw [if_pos hg, if_neg n1, e_gI o0, e12, ite_le (by omega) (by omega)]
    by_cases h1 : n ≤ e
    · rw [if_pos h1, if_pos rfl, e_gI o0, e11]
    · rw [if_neg h1, if_pos rfl, e_gI o0, e11, e_gI o0, e12, ite_eq (by omega) (by omega)]
      by_cases h2 : q = e
      · rw [if_pos h2, e_gI o0, e12, h2]
      · rw [if_neg h2, if_pos rfl, e_gI o0, e11]
  · rw [if_neg hg, e_gI o0, e11, e_gI o0, e12, ite_eq (by omega) (by omega)]
    by_cases h2 : q = e
    · rw [if_pos h2, e_gI o0, e12, ite_le (by omega) (by omega)]
      by_cases h1 : n ≤ e
      · rw [if_pos h1, if_neg l10, if_pos ⟨hg, by omega⟩]
      · rw [if_neg h1, if_neg l10, e_gI o0, e12, if_neg (fun z => by omega), h2]
    · have n1 : ¬ (g ≠ 0 ∧ q = n) := fun z => by have := z.2; omega
      rw [if_neg h2, e_gI o0, e12, ite_le (by omega) (by omega), if_neg n1]
      by_cases h1 : n ≤ e
      · rw [if_pos h1, if_pos rfl, e_gI o0, e11]
      · rw [if_neg h1, if_pos rfl, e_gI o0, e11, e_gI o0, e12, ite_eq (by omega) (by omega), if_neg h2, if_pos rfl, e_gI o0, e11]
/-- a rule read: its pointer lies in the class's readRule -/
theorem c_readsRule (hs : Sh σ) (t : TC σ T) (ok : TOK T) : wp (f_X1_readsRule (some 0) σ) (fun x τ => FrS [] [10, 11, 12, 13, 22] [] 40 σ τ ∧ FrD σ τ ∧ hi τ 0 10 = 0 ∧ (match ruO T with
    | none => x = -1 - nI (ruQ T)
    | some o => x = 0 ∧ RR τ (hr τ 0 22) o)) := by
  have t80 := ok.1
  obtain ⟨τ1, b1, f1, b2', b3, cs⟩ := c_begun hs t ok (m := 40) (by decide)
  have s1 := cs.1
  have fs1 := f1.frs hs rfl
  have fd1 := f1.frd rfl
  have wr : ∀ {τ : Hp} (y : Option Nat), Sh τ → FrS [] [22] [] 0 τ (wR τ 0 22 y) ∧ FrD τ (wR τ 0 22 y) := fun {τ} y h => by
    have f : Fr [] [22] [] τ (wR τ 0 22 y) := Fr.refl.putR rfl
    exact ⟨f.frs h rfl, f.frd rfl⟩
  unfold f_X1_readsRule
  rw [wp_ob]
  refine ⟨so_0 hs, ?_⟩
  rw [show (40 : Int32) = nI 40 from rfl, b1, e_bnd, y_jn, ite_eq0 (by omega)]
  by_cases h0 : T.1 = 0
  · rw [if_pos h0, wp_pR]
    refine ⟨so_0 s1, ?_⟩
    obtain ⟨w1, w2⟩ := wr none s1
    rw [if_pos (by rw [h0]; rfl), wp_some]
    have e : ruO T = some none := by unfold ruO; rw [if_pos h0]
    rw [e]
    exact ⟨((fs1.mono (D' := []) (F' := [10, 11, 12, 13, 22]) (G' := []) rfl (Nat.le_refl _)).trans (w1.mono rfl (Nat.le_refl _))).mono rfl (by decide), fd1.trans w2 (Nat.le_of_eq f1.1.symm), b2', rfl, hr_eq⟩
  · rw [if_neg h0, wp_ob]
    refine ⟨so_0 s1, ?_⟩
    obtain ⟨y, τ, r1, r2, r3, r4, r5⟩ := c_readsAll (e := min T.1 40) (c := ruC T) (by omega) cs b3
    have hq := (ruleP_good (ends_cut T 40) (show min T.1 40 ≤ 40 by omega)).1
    have hq' : ruQ T ≤ min T.1 40 := hq
    have hτ := r2.sh s1
    have fs2 : FrS [] [11, 13] [] 40 τ1 τ := (r2.frs s1).mono rfl (by show ruQ T ≤ 40; omega)
    obtain ⟨w1, w2⟩ := wr y hτ
    have hυ := sw_22 (v := y) hτ
    have fall : FrS [] [10, 11, 12, 13, 22] [] 40 σ (wR τ 0 22 y) := (((fs1.mono (D' := []) (F' := [10, 11, 12, 13, 22]) (G' := []) rfl (Nat.le_refl _)).trans (fs2.mono rfl (Nat.le_refl _))).trans (w1.mono rfl (Nat.le_refl _))).mono rfl (by decide)
    have dall : FrD σ (wR τ 0 22 y) := (fd1.trans (r2.frd s1) (Nat.le_of_eq f1.1.symm)).trans w2 (Nat.le_trans (Nat.le_of_eq f1.1.symm) r2.1.1)
    have e10 : hi τ 0 10 = 0 := (r2.i s1 (by decide) (fun _ => by decide)).trans b2'
    have e12 : hi τ 0 12 = nI (min T.1 40) := (r2.i s1 (by decide) (fun _ => by decide)).trans cs.2.2.2.2.2.1
    rw [r1, e_bnd, wp_pR]
    refine ⟨so_0 hτ, ?_⟩
    rw [if_neg (by rw [n_0, nI_eq_l (by omega) (by decide)]; exact h0), wp_gR, hr_eq]
    refine ⟨so_0 hυ, ?_⟩
    rw [y_jn]
    have fo : ∀ g, f_X1_faultOf (some 0) (nI T.1) g (wR τ 0 22 y) = some (if g ≠ 0 ∧ ruQ T = T.1 then 0 else -1 - nI (ruQ T), wR τ 0 22 y) := fun g => c_faultOf hυ r3 e12 hq' (by omega) (by omega)
    have hO : ruO T = (match (ruleP (ruC T)).1 with
      | none => none
      | some E => if ruQ T = T.1 then some (some E) else none) := by unfold ruO; rw [if_neg h0]; rfl
    rw [hO]
    have rr : RR (wR τ 0 22 y) y (ruleP (ruC T)).1 := by
      cases hr' : (ruleP (ruC T)).1 with
      | none => exact r4 hr'
      | some E =>
        obtain ⟨b, a1, a2⟩ := r5 E hr'
        exact ⟨b, a1, a2.nk w1.2.2.1⟩
    have e22 : hr (wR τ 0 22 y) 0 22 = y := hr_eq
    cases hE : (ruleP (ruC T)).1 with
    | none =>
      rw [r4 hE] at *
      unfold nul
      dsimp only
      rw [wp_ob]
      refine ⟨so_0 hυ, ?_⟩
      rw [fo, e_bnd, wp_some, if_neg (fun z => z.1 rfl)]
      exact ⟨fall, dall, e10, rfl⟩
    | some E =>
      obtain ⟨b, rfl, a2⟩ := r5 E hE
      rw [hE] at rr
      unfold nul
      dsimp only
      rw [wp_ob]
      refine ⟨so_0 hυ, ?_⟩
      rw [fo, e_bnd, wp_some]
      refine ⟨fall, dall, e10, ?_⟩
      by_cases h2 : ruQ T = T.1
      · rw [if_pos h2]
        dsimp only
        rw [if_pos ⟨by decide, h2⟩, e22]
        exact ⟨rfl, rr⟩
      · rw [if_neg h2]
        dsimp only
        rw [if_neg (fun z => h2 z.2)]
theorem c_rule (h : CV σ V) (hk : VOK V) : wp (f_X1_rule (some 0) σ) (GoC σ 40 (ruR V).1 (ruR V).2) := by
  obtain ⟨x, s, t, u, f, r, ch⟩ := h
  unfold f_X1_rule ruR
  rw [wp_ob]
  refine ⟨so_0 x.s, ?_⟩
  rw [wp_bnd]
  refine wp_mono (c_readsRule x.s t hk.1) (fun y τ h1 => ?_)
  obtain ⟨fs, fd, e10, h2⟩ := h1
  have hτ := fs.sh x.s rfl
  rw [y_jn]
  have tt : ∀ {ω : Hp}, hi ω 0 10 = 0 → TC ω (0, V.T.2) := fun h => ⟨h, fun p hp => absurd hp (Nat.not_lt_zero _)⟩
  cases hO : ruO V.T with
  | none =>
    rw [hO] at h2
    dsimp only at h2 ⊢
    have hne : ¬ y = 0 := by
      rw [h2]
      have hq : ruQ V.T ≤ 40 := by
        have := (ruleP_good (ends_cut V.T 40) (show min V.T.1 40 ≤ 40 by omega)).1
        have h3 : ruQ V.T ≤ min V.T.1 40 := this
        omega
      have : ∀ k, k < 81 → ¬ (-1 - nI k = 0) := by decide +kernel
      exact this _ (by omega)
    rw [if_neg hne, wp_some]
    exact ⟨h2, ⟨x.frs fs rfl, s.frs fs rfl, tt e10, u.frs fs fd rfl, f.frs fs rfl, r.frs fs rfl, (fs.i (by decide) rfl).trans ch⟩, _, _, fs, rfl⟩
  | some o =>
    rw [hO] at h2
    dsimp only at h2 ⊢
    obtain ⟨rfl, rr⟩ := h2
    rw [if_pos rfl, wp_gR]
    refine ⟨so_0 hτ, ?_⟩
    rw [wp_pR]
    refine ⟨so_0 hτ, ?_⟩
    rw [wp_some]
    have x1 := x.frs fs rfl
    have x2 := x1.rl rr
    have g : Fr [] [21] [] τ (wR τ 0 21 (hr τ 0 22)) := Fr.refl.putR rfl
    have gs := g.frs hτ rfl
    have fs2 : FrS [] [10, 11, 12, 13, 21, 22] [] 40 σ (wR τ 0 21 (hr τ 0 22)) := ((fs.mono (D' := []) (F' := [10, 11, 12, 13, 21, 22]) (G' := []) rfl (Nat.le_refl _)).trans (gs.mono rfl (Nat.le_refl _))).mono rfl (Nat.le_refl _)
    have fd2 := fd.trans (g.frd rfl) fs.1.1
    exact ⟨rfl, ⟨x2, s.frs fs2 rfl, tt e10, u.frs fs2 fd2 rfl, f.frs fs2 rfl, r.frs fs2 rfl, (fs2.i (by decide) rfl).trans ch⟩, _, _, fs2, rfl⟩
theorem c_hardRota (x : CX σ P a) : wp (f_X1_hardOfRota (some 0) σ) (fun v τ => v = rhI P a P.hrs ∧ Fr [] [18, 19, 20] [] σ τ) := by
  have x0 := x
  have n8 := x.n8
  have h8 := x.h8
  unfold f_X1_hardOfRota
  refine wp_up P.hrs (fun h y τ => y = (rhI P a h, nI h) ∧ Fr [] [18, 19, 20] [] σ τ) (fun ag h y τ hh hJ hag => ?_) (fun ag y τ hJ => ?_) (by omega) ⟨rfl, Fr.refl⟩
  · obtain ⟨rfl, f⟩ := hJ
    replace x := x0.fr f rfl
    have st : rhI P a (h + 1) = rhI P a h + (if a.rota h = -1 then 0 else hardI P a (ix (a.rota h)) h) := rfl
    unfold f_X1_hardOfRota_b4
    rw [wp_gI, x.h, if_neg (nI_ge hh (by omega))]
    refine ⟨so_0 x.s, ?_⟩
    rw [wp_gR, sp_0_0 x.s]
    refine ⟨so_0 x.s, ?_⟩
    rw [wp_gR, sp_1_0 x.s]
    refine ⟨so_1 x.s, ?_⟩
    rw [wp_lI, ix_nI (by omega), sl_2 x.s, inb_nI (by omega), x.ro h (by omega)]
    refine ⟨⟨so_2 x.s, by omega⟩, ?_⟩
    rw [y_jn]
    rcases x.ok.2 h (by omega) with er | ⟨r, hr', er⟩
    · rw [er, if_neg (by decide), nI_1]
      exact hag _ _ ⟨by rw [st, er, if_pos rfl], f⟩
    · rw [er, if_pos (by rw [l_nn (by omega)]; trivial), wp_gR, sp_0_0 x.s]
      refine ⟨so_0 x.s, ?_⟩
      rw [wp_gR, sp_0_0 x.s]
      refine ⟨so_0 x.s, ?_⟩
      rw [wp_gR, sp_1_0 x.s]
      refine ⟨so_1 x.s, ?_⟩
      rw [wp_lI, ix_nI (by omega), sl_2 x.s, inb_nI (by omega), x.ro h (by omega), er]
      refine ⟨⟨so_2 x.s, by omega⟩, ?_⟩
      rw [wp_ob]
      refine ⟨so_0 x.s, ?_⟩
      rw [c_hardOf x.s x.2.1 x.pk x.2.2.2.1 (by decide) hr' (by omega), e_bnd, nI_1]
      exact hag _ _ ⟨by rw [st, er, if_neg (m1_ne (by omega)), ix_nI (by omega)], f.trans (asked_fr.mono rfl)⟩
  · obtain ⟨rfl, f⟩ := hJ
    replace x := x0.fr f rfl
    unfold f_X1_hardOfRota_b4
    rw [wp_gI, x.h, if_pos (nI_le (Nat.le_refl _) (by omega)), wp_some]
    exact ⟨so_0 x.s, rfl, f⟩
theorem c_law (h : CV σ V) (hk : VOK V) : wp (f_X1_law (some 0) σ) (GoC σ 40 (laR V).1 (laR V).2) := by
  obtain ⟨x, s, t, u, f, r, ch⟩ := h
  unfold f_X1_law laR
  rw [wp_ob]
  refine ⟨so_0 x.s, ?_⟩
  rw [wp_bnd]
  refine wp_mono (c_readsRule x.s t hk.1) (fun y τ h1 => ?_)
  obtain ⟨fs, fd, e10, h2⟩ := h1
  have hτ := fs.sh x.s rfl
  have tt : ∀ {ω : Hp}, hi ω 0 10 = 0 → TC ω (0, V.T.2) := fun h => ⟨h, fun p hp => absurd hp (Nat.not_lt_zero _)⟩
  cases hO : ruO V.T with
  | none =>
    rw [hO] at h2
    dsimp only at h2 ⊢
    have hq : ruQ V.T ≤ 40 := by
      have := (ruleP_good (ends_cut V.T 40) (show min V.T.1 40 ≤ 40 by omega)).1
      have h3 : ruQ V.T ≤ min V.T.1 40 := this
      omega
    have h81 : ∀ k, k < 81 → ¬ (0 ≤ -1 - nI k) ∧ -1 - nI k + 1 - 10000 = -10000 - nI k := by decide +kernel
    obtain ⟨g1, g2⟩ := h81 (ruQ V.T) (by omega)
    rw [h2, if_neg g1, wp_some]
    exact ⟨g2, ⟨x.frs fs rfl, s.frs fs rfl, tt e10, u.frs fs fd rfl, f.frs fs rfl, r.frs fs rfl, (fs.i (by decide) rfl).trans ch⟩, _, _, fs, rfl⟩
  | some o =>
    rw [hO] at h2
    dsimp only at h2 ⊢
    obtain ⟨rfl, rr⟩ := h2
    rw [if_pos (by decide), wp_ob]
    refine ⟨so_0 hτ, ?_⟩
    rw [wp_bnd]
    have x1 := x.frs fs rfl
    refine wp_mono (c_hardRota x1) (fun v2 τ2 h3 => ?_)
    obtain ⟨rfl, f2⟩ := h3
    have x2 := x1.fr f2 rfl
    rw [wp_gR]
    refine ⟨so_0 x2.s, ?_⟩
    rw [wp_gR, f2.r (σ := τ) (a := 0) (i := 22) rfl]
    refine ⟨so_0 x2.s, ?_⟩
    rw [wp_pR]
    refine ⟨so_0 x2.s, ?_⟩
    have rr2 := rr.nk (f2.nk hτ rfl)
    have x3 := x2.rl rr2
    generalize hω : wR τ2 0 21 (hr τ 0 22) = ω at *
    have g3 : Fr [] [21] [] τ2 ω := by rw [← hω]; exact Fr.refl.putR rfl
    rw [wp_ob]
    refine ⟨so_0 x3.s, ?_⟩
    rw [wp_bnd]
    refine wp_mono (c_hardRota x3) (fun v4 τ4 h5 => ?_)
    obtain ⟨rfl, f4⟩ := h5
    have x4 := x3.fr f4 rfl
    rw [wp_pR]
    refine ⟨so_0 x4.s, ?_⟩
    have rr4 : RR τ4 (hr τ2 0 21) V.P.rule := (x2.2.1.2.2.2.2.rr.nk (g3.nk x2.s rfl)).nk (f4.nk x3.s rfl)
    have x5 : CX (wR τ4 0 21 (hr τ2 0 21)) V.P V.a := x4.rl rr4
    have g5 : Fr [] [21] [] τ4 (wR τ4 0 21 (hr τ2 0 21)) := Fr.refl.putR rfl
    generalize wR τ4 0 21 (hr τ2 0 21) = ψ at *
    have fψ : Fr [] [18, 19, 20, 21] [] τ ψ := (((f2.mono rfl).trans (g3.mono rfl)).trans (f4.mono rfl)).trans (g5.mono rfl)
    rw [wp_pI]
    refine ⟨so_0 x5.s, rfl, ?_⟩
    have g6 : Fr [] [52] [] ψ (wI ψ 0 52 0) := Fr.refl.putI rfl
    have x6 := x5.fr g6 rfl
    rw [wp_ob]
    refine ⟨so_0 x6.s, ?_⟩
    rw [wt_0 x6.s hi_eq, wp_ob]
    refine ⟨so_0 (σ := wI (wL (wI ψ 0 52 0) 36 0 _) 0 52 1) x6.s, ?_⟩
    rw [wt_1 (σ := wI (wL (wI ψ 0 52 0) 36 0 _) 0 52 1) x6.s hi_eq, wp_some]
    have e1 : (rlP V.P o).hrs = V.P.hrs := rfl
    rw [e1]
    generalize rhI (rlP V.P o) V.a V.P.hrs = A at *
    generalize rhI V.P V.a V.P.hrs = B at *
    have g7 : Fr [36] [52] [] ψ (wI (wL (wI (wL (wI ψ 0 52 0) 36 0 A.toInt64) 0 52 1) 36 1 B.toInt64) 0 52 2) := ((((Fr.refl.putI rfl).putL rfl).putI rfl).putL rfl).putI rfl
    have f8 : Fr [36] [18, 19, 20, 21, 52] [] τ _ := (fψ.mono rfl).trans (g7.mono rfl)
    have fs8 : FrS [36] [10, 11, 12, 13, 18, 19, 20, 21, 22, 52] [] 40 σ _ := ((fs.mono (D' := [36]) (F' := [10, 11, 12, 13, 18, 19, 20, 21, 22, 52]) (G' := []) rfl (Nat.le_refl _)).trans ((f8.mono rfl).frs hτ rfl)).mono rfl (Nat.le_refl _)
    have fd8 := fd.trans (f8.frd rfl) fs.1.1
    refine ⟨rfl, ⟨x5.fr g7 rfl, s.frs fs8 rfl, tt ?_, u.frs fs8 fd8 rfl, f.frs fs8 rfl, row2, (fs8.i (by decide) rfl).trans ch⟩, _, _, fs8, rfl⟩
    rw [f8.i (σ := τ) rfl]; exact e10
end crule
