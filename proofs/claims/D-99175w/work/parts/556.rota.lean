/-! PURE 98: a rota read from the text -/
def rtC (T : TX) : Nat → Int32 := fun p => if p < T.1 then T.2 p else -1
abbrev rtB (n : Nat) (c : Int32) : Prop := c = 45 ∨ isR (nI n) (c - 48)
def rtV (c : Int32) : Int32 := if c = 45 then -1 else c - 48
/-- the first hour at which the rota is at fault; its end, if more follows -/
def roQ (n hrs : Nat) (T : TX) : Option Nat := match fstN (fun h => !decide (rtB n (rtC T h))) hrs with
  | some q => some q
  | none => if hrs < T.1 then some hrs else none
def roN (T : TX) (hrs : Nat) : Nat := cnt (fun h => !decide (rtC T h = 45)) hrs
def roH (a : HS) (T : TX) (hrs : Nat) : HS := ((fun h => if h < hrs then rtV (rtC T h) else -1), a.2)
def rtR (V : VS) : Int32 × VS := match roQ V.P.n V.P.hrs V.T with
  | some q => (-1 - nI q, sT V (0, V.T.2))
  | none => (nI (roN V.T V.P.hrs), sA (sT V (0, V.T.2)) (roH V.a V.T V.P.hrs) (psh V.U V.a))
theorem rt_ok {V : VS} (h : VOK V) (ha : HOK V.P.n V.a) : VOK (rtR V).2 := by
  unfold rtR
  split
  · exact t0_ok h
  · exact ⟨⟨Nat.zero_le _, fun p hp => absurd hp (Nat.not_lt_zero _)⟩, ⟨psh_le h.2.1.1, psh_ok h.2.1.2 ha⟩, h.2.2⟩
theorem rtB_V {n : Nat} (n8 : n ≤ 8) {c : Int32} (h : rtB n c) : okR n (rtV c) ∧ (rtV c = -1 ↔ c = 45) ∧ c ≠ -1 ∧ (c ≠ 45 → isDig c ∧ c - 48 = rtV c) := by
  unfold rtV
  rcases h with rfl | h
  · rw [if_pos rfl]
    exact ⟨Or.inl rfl, ⟨fun _ => rfl, fun _ => rfl⟩, by decide, fun z => absurd rfl z⟩
  · obtain ⟨r, hr', e⟩ := (isR_iff (by omega)).mp h
    have ec : c = nI (r + 48) := by
      have : c = (c - 48) + 48 := by rw [Int32.sub_add_cancel]
      rw [this, e, show (48 : Int32) = nI 48 from rfl, nI_add]
    have h45 : ¬ c = 45 := by rw [ec, show (45 : Int32) = nI 45 from rfl, nI_eq_l (by omega) (by decide)]; omega
    rw [if_neg h45, e]
    refine ⟨Or.inr ⟨r, hr', rfl⟩, ⟨fun z => absurd z (m1_ne (by omega)), fun z => absurd z h45⟩, by rw [ec]; exact m1_ne (by omega), fun _ => ⟨⟨?_, ?_⟩, rfl⟩⟩
    · rw [ec, show (48 : Int32) = nI 48 from rfl, nI_le_l (by decide) (by omega)]; omega
    · rw [ec, show (57 : Int32) = nI 57 from rfl, nI_le_l (by omega) (by decide)]; omega
theorem roH_ok {n : Nat} (n8 : n ≤ 8) {a : HS} (h : HOK n a) {T : TX} {hrs : Nat} (hb : ∀ q, q < hrs → rtB n (rtC T q)) : HOK n (roH a T hrs) := ⟨h.1, fun j hj => by
  show okR n (if j < hrs then rtV (rtC T j) else -1)
  by_cases e : j < hrs
  · rw [if_pos e]; exact (rtB_V n8 (hb j e)).1
  · rw [if_neg e]; exact Or.inl rfl⟩
theorem roQ_none {n hrs : Nat} {T : TX} (h : roQ n hrs T = none) : (∀ q, q < hrs → rtB n (rtC T q)) ∧ ¬ hrs < T.1 := by
  unfold roQ at h
  cases hf : fstN (fun h => !decide (rtB n (rtC T h))) hrs with
  | some q => rw [hf] at h; cases h
  | none =>
    rw [hf] at h
    dsimp only at h
    refine ⟨fun q hq => ?_, fun z => by rw [if_pos z] at h; cases h⟩
    have := fstN_none hf q hq
    rw [Bool.not_eq_false', decide_eq_true_eq] at this
    exact this
theorem roQ_at {n hrs q : Nat} {T : TX} (hq : q < hrs) (h1 : ¬ rtB n (rtC T q)) (h2 : ∀ p, p < q → rtB n (rtC T p)) : roQ n hrs T = some q := by
  unfold roQ
  rw [fstN_eq (f := fun h => !decide (rtB n (rtC T h))) hq (by rw [decide_eq_false h1]; rfl) (fun p hp => by rw [decide_eq_true (h2 p hp)]; rfl)]
theorem roQ_end {n hrs : Nat} {T : TX} (h1 : ∀ q, q < hrs → rtB n (rtC T q)) : roQ n hrs T = if hrs < T.1 then some hrs else none := by
  unfold roQ
  cases hf : fstN (fun h => !decide (rtB n (rtC T h))) hrs with
  | some q =>
    obtain ⟨a1, a2, -⟩ := fstN_some hf
    rw [decide_eq_true (h1 q a1)] at a2
    cases a2
  | none => rfl
section rota
variable {V : VS} {σ τ υ : Hp} {T : TX}
theorem c_rota (h : CV σ V) (hk : VOK V) : wp (f_X1_rota (some 0) σ) (GoC σ 3 (rtR V).1 (rtR V).2) := by
  obtain ⟨x, s, t, u, f, r, ch⟩ := h
  have n8 := x.n8
  have h8 := x.h8
  have t80 := hk.1.1
  obtain ⟨τ1, b1, f1, b2', b3, cs⟩ := c_begun x.s t hk.1 (m := 80) (Nat.le_refl _)
  have em : min V.T.1 80 = V.T.1 := by omega
  rw [em] at cs
  have cs0 : CS τ1 (rtC V.T) V.T.1 0 := cs
  have fs1 := f1.frs x.s rfl
  have tt : ∀ {ω : Hp}, hi ω 0 10 = 0 → TC ω (0, V.T.2) := fun h => ⟨h, fun p hp => absurd hp (Nat.not_lt_zero _)⟩
  have mk : ∀ {ω : Hp}, Fr [20] [11] [] τ1 ω → CV ω (sT V (0, V.T.2)) ∧ FrS [20] [10, 11, 12, 13] [] 0 σ ω := fun {ω} g => by
    have ff : Fr [20] [10, 11, 12, 13] [] σ ω := (f1.mono rfl).trans (g.mono rfl)
    have fs := ff.frs x.s rfl
    exact ⟨⟨x.frs fs rfl, s.frs fs rfl, tt ((g.i rfl).trans b2'), u.frs fs (ff.frd rfl) rfl, f.frs fs rfl, r.frs fs rfl, (fs.i (by decide) rfl).trans ch⟩, fs⟩
  unfold f_X1_rota
  rw [wp_ob]
  refine ⟨so_0 x.s, ?_⟩
  rw [show (80 : Int32) = nI 80 from rfl, b1, e_bnd]
  generalize hQ : GoC σ 3 (rtR V).1 (rtR V).2 = Q
  have bad : ∀ (ω : Hp) (q : Nat), Fr [20] [11] [] τ1 ω → hi ω 0 11 = nI q → roQ V.P.n V.P.hrs V.T = some q → wp (gI 0 11 ω (some 0) fun x31 => some (((-1) - x31), ω)) Q := fun ω q g e11 hq => by
    obtain ⟨h1, fs⟩ := mk g
    rw [wp_gI, e11]
    refine ⟨so_0 h1.1.s, ?_⟩
    rw [wp_some, ← hQ]
    unfold rtR
    rw [hq]
    exact ⟨rfl, h1, _, _, fs.mono (D' := [20]) (F' := [10, 11, 12, 13]) (G' := []) rfl (Nat.zero_le _), rfl⟩
  refine wp_up V.P.hrs (fun h y ω => y = (nI (roN V.T h), nI h) ∧ Fr [20] [11] [] τ1 ω ∧ CS ω (rtC V.T) V.T.1 h ∧ (∀ q, q < h → rtB V.P.n (rtC V.T q)) ∧ ∀ q, q < h → hi ω 20 q = rtV (rtC V.T q)) (fun ag h y ω hh hJ hag => ?_) (fun ag y ω hJ => ?_) (by omega) ⟨rfl, Fr.refl, cs0, fun q hq => absurd hq (Nat.not_lt_zero _), fun q hq => absurd hq (Nat.not_lt_zero _)⟩
  · obtain ⟨rfl, g, cw, k1, k2⟩ := hJ
    obtain ⟨h1, fs⟩ := mk g
    have xw := h1.1
    have e6 : hi ω 0 6 = nI V.P.hrs := xw.h
    have st : roN V.T (h + 1) = roN V.T h + (!decide (rtC V.T h = 45)).toNat := rfl
    unfold f_X1_rota_b11
    rw [wp_gI, e6, if_neg (nI_ge hh (by omega))]
    refine ⟨so_0 xw.s, ?_⟩
    rw [wp_ob]
    refine ⟨so_0 xw.s, ?_⟩
    rw [c_takes cw (by decide), e_bnd, y_jn]
    have next : ∀ (ω' : Hp), Fr [20] [11] [] τ1 ω' → CS ω' (rtC V.T) V.T.1 (h + 1) → (∀ q, q < h → hi ω' 20 q = rtV (rtC V.T q)) → rtB V.P.n (rtC V.T h) → ∀ w, w = (!decide (rtC V.T h = 45)).toNat → wp (ag (nI (roN V.T h) + nI w, nI h + 1) (wI ω' 20 h (rtV (rtC V.T h)))) Q := fun ω' g' c' k' hb w hw => by
      rw [nI_1, nI_add, hw, ← st]
      have g2 : Fr [20] [] [] ω' (wI ω' 20 h (rtV (rtC V.T h))) := Fr.refl.putI rfl
      refine hag _ _ ⟨rfl, g'.putI rfl, ⟨sw_I c'.1, c'.2.1, c'.2.2.1, c'.2.2.2.1, (g2.i rfl).trans c'.2.2.2.2.1, (g2.i rfl).trans c'.2.2.2.2.2.1, fun q hq => ⟨(g2.i rfl).trans (c'.2.2.2.2.2.2 q hq).1, (c'.2.2.2.2.2.2 q hq).2⟩⟩, fun q hq => ?_, fun q hq => ?_⟩
      · by_cases e : q = h
        · rw [e]; exact hb
        · exact k1 q (by omega)
      · by_cases e : q = h
        · rw [e, hi_eq]
        · rw [hi_ni e]; exact k' q (by omega)
    by_cases c1 : rtC V.T h = 45
    · have hlt := cw.2.1.lt c1 (by decide)
      have cw1 := cw.go (q := h + 1) hlt
      have hb2 : b2 (rtC V.T h = 45) = 1 := b2_eq1.mpr c1
      rw [hb2, if_pos c1, if_neg (by decide), wp_gR, sp_0_30 cw1.1]
      refine ⟨so_0 cw1.1, ?_⟩
      rw [y_jn, if_neg (by decide), wp_sI, ix_nI (by omega), sl_20 cw1.1, inb_nI (by omega)]
      refine ⟨⟨so_20 cw1.1, by omega⟩, ?_⟩
      rw [y_jn, if_neg (by decide)]
      have := next (atC ω (h + 1)) (g.trans (atC_fr.mono rfl)) cw1 (fun q hq => by rw [atC_fr.i (a := 20) rfl]; exact k2 q hq) (Or.inl c1) 0 (by rw [decide_eq_true c1]; rfl)
      have e1 : rtV (rtC V.T h) = -1 := by unfold rtV; rw [if_pos c1]
      rw [e1] at this
      exact this
    · have hb2 : b2 (rtC V.T h = 45) = 0 := b2_eq0.mpr c1
      rw [hb2, if_neg c1, if_pos rfl, wp_ob]
      refine ⟨so_0 xw.s, ?_⟩
      rw [c_isDigit cw, e_bnd, b2_ite]
      by_cases c2 : isDig (rtC V.T h)
      · have hlt := cw.2.1.lt rfl (dig_ne c2)
        have h4 := cw.2.2.2.2.1
        rw [if_pos c2, wp_gR, sp_0_9 xw.s]
        refine ⟨so_0 xw.s, ?_⟩
        rw [wp_gI, h4]
        refine ⟨so_0 xw.s, ?_⟩
        rw [wp_lI, ix_nI (by omega), sl_10 xw.s, inb_nI (by omega), (cw.2.2.2.2.2.2 h hlt).1]
        refine ⟨⟨so_10 xw.s, by omega⟩, ?_⟩
        rw [wp_ob]
        refine ⟨so_0 xw.s, ?_⟩
        rw [w_isRider xw.s, xw.n, b2_ite]
        by_cases c3 : isR (nI V.P.n) (rtC V.T h - 48)
        · have hB : rtB V.P.n (rtC V.T h) := Or.inr c3
          have cw1 := cw.go (q := h + 1) hlt
          rw [if_pos (show isR (nI (sT V (0, V.T.2)).P.n) (rtC V.T h - 48) from c3), wp_gR, sp_0_30 xw.s]
          refine ⟨so_0 xw.s, ?_⟩
          rw [y_jn, if_pos rfl, wp_ob]
          refine ⟨so_0 xw.s, ?_⟩
          have en := c_number cw (k := 1) (by decide) c2
          have ep : pNum (rtC V.T) 1 0 h = (rtC V.T h - 48, h + 1) := by
            show (if isDig (rtC V.T h) then (10 * 0 + (rtC V.T h - 48), h + 1) else _) = _
            rw [if_pos c2, i32_z]
          rw [ep] at en
          rw [show nI 1 = (1 : Int32) from rfl] at en
          rw [en, e_bnd, wp_sI, ix_nI (by omega), sl_20 cw1.1, inb_nI (by omega)]
          refine ⟨⟨so_20 cw1.1, by omega⟩, ?_⟩
          rw [y_jn, if_pos rfl]
          have := next (atC ω (h + 1)) (g.trans (atC_fr.mono rfl)) cw1 (fun q hq => by rw [atC_fr.i (a := 20) rfl]; exact k2 q hq) hB 1 (by rw [decide_eq_false c1]; rfl)
          have e1 : rtV (rtC V.T h) = rtC V.T h - 48 := by unfold rtV; rw [if_neg c1]
          rw [e1] at this
          exact this
        · rw [if_neg (show ¬ isR (nI (sT V (0, V.T.2)).P.n) (rtC V.T h - 48) from c3)]
          exact bad ω h g h4 (roQ_at hh (fun z => by rcases z with z | z; exact c1 z; exact c3 z) k1)
      · rw [if_neg c2]
        refine bad ω h g cw.2.2.2.2.1 (roQ_at hh (fun z => ?_) k1)
        exact c2 ((rtB_V n8 z).2.2.2 c1).1
  · obtain ⟨rfl, g, cw, k1, k2⟩ := hJ
    obtain ⟨h1, fs⟩ := mk g
    have xw := h1.1
    have e6 : hi ω 0 6 = nI V.P.hrs := xw.h
    have hle := cw.2.2.2.1
    have hq := roQ_end k1
    unfold f_X1_rota_b11
    rw [wp_gI, e6, if_pos (nI_le (Nat.le_refl _) (by omega))]
    refine ⟨so_0 xw.s, ?_⟩
    rw [wp_gI, cw.2.2.2.2.1]
    refine ⟨so_0 xw.s, ?_⟩
    rw [wp_gI, cw.2.2.2.2.2.1, ite_le (by omega) (by omega)]
    refine ⟨so_0 xw.s, ?_⟩
    by_cases c1 : V.P.hrs < V.T.1
    · rw [if_pos c1] at hq
      rw [if_neg (by omega)]
      exact bad ω V.P.hrs g cw.2.2.2.2.1 hq
    · rw [if_neg c1] at hq
      rw [if_pos (by omega), wp_gR, sp_0_0 xw.s]
      refine ⟨so_0 xw.s, ?_⟩
      rw [wp_ob]
      refine ⟨so_0 xw.s, ?_⟩
      rw [wp_bnd]
      refine wp_mono (c_puts1 h1) (fun _ τ3 h3 => ?_)
      obtain ⟨fs3, h3⟩ := h3
      have x3 := h3.1
      have k3 : ∀ q, q < V.P.hrs → hi τ3 20 q = rtV (rtC V.T q) := fun q hq => (fs3.i (by decide) rfl).trans (k2 q hq)
      refine wp_up 8 (fun i y τ => y = nI i ∧ Fr [2] [] [] τ3 τ ∧ ∀ j, j < 8 → hi τ 2 j = if j < i then (roH V.a V.T V.P.hrs).rota j else V.a.rota j) (fun ag i y τ hi' hJ hag => ?_) (fun ag y τ hJ => ?_) (by decide) ⟨rfl, Fr.refl, fun j hj => by rw [if_neg (Nat.not_lt_zero _)]; exact x3.ro j hj⟩
      · obtain ⟨rfl, g4, m1⟩ := hJ
        have hτ := g4.sh x3.s rfl
        have e6' : hi τ 0 6 = nI V.P.hrs := (g4.i rfl).trans x3.h
        unfold f_X1_rota_b128
        rw [n_8, if_neg (nI_ge hi' (by decide)), wp_gR, sp_0_0 hτ]
        refine ⟨so_0 hτ, ?_⟩
        rw [wp_gR, sp_1_0 hτ]
        refine ⟨so_1 hτ, ?_⟩
        rw [wp_gI, e6']
        refine ⟨so_0 hτ, ?_⟩
        have go : ∀ w, w = (roH V.a V.T V.P.hrs).rota i → wp (sI τ (some 2) (nI i) w fun σ => ag (nI i + 1) σ) Q := fun w hw => by
          rw [wp_sI, ix_nI (by omega), sl_2 hτ, inb_nI (by omega), nI_1]
          refine ⟨⟨so_2 hτ, hi'⟩, hag _ _ ⟨rfl, g4.putI rfl, fun j hj => ?_⟩⟩
          by_cases e : j = i
          · rw [e, hi_eq, if_pos (Nat.lt_succ_self i), hw]
          · rw [hi_ni e, m1 j hj]
            by_cases e2 : j < i
            · rw [if_pos e2, if_pos (by omega)]
            · rw [if_neg e2, if_neg (by omega)]
        rw [y_jn, ite_le (by omega) (by omega)]
        by_cases c2 : V.P.hrs ≤ i
        · rw [if_pos c2]
          exact go _ (by show _ = if i < V.P.hrs then _ else (-1 : Int32); rw [if_neg (by omega)])
        · rw [if_neg c2, wp_gR, sp_0_30 hτ]
          refine ⟨so_0 hτ, ?_⟩
          rw [wp_lI, ix_nI (by omega), sl_20 hτ, inb_nI (by omega), g4.i (σ := τ3) (a := 20) rfl, k3 i (by omega)]
          refine ⟨⟨so_20 hτ, hi'⟩, ?_⟩
          exact go _ (by show _ = if i < V.P.hrs then rtV (rtC V.T i) else (-1 : Int32); rw [if_pos (by omega)])
      · obtain ⟨rfl, g4, m1⟩ := hJ
        unfold f_X1_rota_b128
        rw [n_8, if_pos (nI_le (Nat.le_refl _) (by decide)), wp_some, ← hQ]
        unfold rtR
        rw [hq]
        have hc : CH τ 1 (roH V.a V.T V.P.hrs) := CH.rotas (s := 1) (r := (roH V.a V.T V.P.hrs).rota) x3.2.2.2.1 g4 (by decide) (by decide) rfl rfl (fun j hj => by rw [m1 j hj, if_pos hj])
        have h4 := h3.horse g4 rfl hc (roH_ok n8 x3.ok k1)
        exact ⟨rfl, h4, [2, 20], [10, 11, 12, 13, 25], ((fs.mono (D' := [2, 20]) (F' := [10, 11, 12, 13, 25]) (G' := []) rfl (Nat.le_refl _)).trans (fs3.mono rfl (Nat.le_refl _))).trans ((g4.mono rfl).frs x3.s rfl) |>.mono rfl (by decide), rfl⟩
end rota
