/-! PURE 119: a row for each call; one step of the law -/
section calls
variable {V : VS}
theorem p_gaps (hk : VOK V) : PC V (f_X1_gaps (some 0)) (f_X3_gaps (some 37)) := (q_gaps).pc hk
theorem p_easiest (hk : VOK V) : PC V (f_X1_easiest (some 0)) (f_X3_easiest (some 37)) := (q_easiest).pc hk
theorem p_fewest (hk : VOK V) : PC V (f_X1_fewest (some 0)) (f_X3_fewest (some 37)) := (q_fewest).pc hk
theorem p_bare (hk : VOK V) : PC V (f_X1_bare (some 0)) (f_X3_bare (some 37)) := (q_bare).pc hk
theorem p_rotas (hk : VOK V) : PC V (f_X1_rotas (some 0)) (f_X3_rotas (some 37)) := (q_rotas).pc hk
theorem p_fairest (hk : VOK V) : PC V (f_X1_fairest (some 0)) (f_X3_fairest (some 37)) := (q_fairest).pc hk
theorem p_away (hk : VOK V) : PC V (f_X1_away (some 0)) (f_X3_away (some 37)) := (q_away).pc hk
theorem p_thin (hk : VOK V) : PC V (f_X1_thin (some 0)) (f_X3_thin (some 37)) := (q_thin).pc hk
theorem p_changes (hk : VOK V) : PC V (f_X1_changes (some 0)) (f_X3_changes (some 37)) := (q_changes).pc hk
theorem p_smoothest (hk : VOK V) : PC V (f_X1_smoothest (some 0)) (f_X3_smoothest (some 37)) := (q_smoothest).pc hk
theorem p_trade (hk : VOK V) (hP : POK V.P) : PC V (f_X1_trade (some 0)) (f_X3_trade (some 37)) := (q_trade hP).pc hk
theorem p_fits (hk : VOK V) : PC V (f_X1_fits (some 0)) (f_X3_fits (some 37)) := (q_fits hk).pc hk
theorem p_ask (hk : VOK V) : PC V (f_X1_ask (some 0)) (f_X3_ask (some 37)) := (q_ask hk).pc hk
theorem p_mended (hk : VOK V) (hP : POK V.P) (a : Int32) : PC V (f_X1_mended (some 0) a) (f_X3_mended (some 37) a) := (q_mended hP a).pc hk
theorem p_missed (hk : VOK V) (hP : POK V.P) (a : Int32) : PC V (f_X1_missed (some 0) a) (f_X3_missed (some 37) a) := (q_missed hP a).pc hk
theorem p_paid (hk : VOK V) (hP : POK V.P) (a : Int32) : PC V (f_X1_paid (some 0) a) (f_X3_paid (some 37) a) := (q_paid hP a).pc hk
theorem p_later (hk : VOK V) (a : Int32) : PC V (f_X1_later (some 0) a) (f_X3_later (some 37) a) := (q_later a).pc hk
theorem p_vigil (hk : VOK V) (a : Int32) : PC V (f_X1_vigil (some 0) a) (f_X3_vigil (some 37) a) := (q_vigil a).pc hk
theorem p_able (hk : VOK V) (a : Int32) : PC V (f_X1_able (some 0) a) (f_X3_able (some 37) a) := (q_able a).pc hk
theorem p_spent (hk : VOK V) (a : Int32) : PC V (f_X1_spent (some 0) a) (f_X3_spent (some 37) a) := (q_spent a).pc hk
theorem p_held (hk : VOK V) (a : Int32) : PC V (f_X1_held (some 0) a) (f_X3_held (some 37) a) := (q_held a).pc hk
theorem p_keystone (hk : VOK V) (a : Int32) : PC V (f_X1_keystone (some 0) a) (f_X3_keystone (some 37) a) := (q_keystone a).pc hk
theorem p_first (hk : VOK V) (a : Int32) : PC V (f_X1_first (some 0) a) (f_X3_first (some 37) a) := (q_first a).pc hk
theorem p_years (hk : VOK V) (a b : Int32) : PC V (f_X1_years (some 0) a b) (f_X3_years (some 37) a b) := (q_years a b).pc hk
theorem p_rests (hk : VOK V) (a b : Int32) : PC V (f_X1_rests (some 0) a b) (f_X3_rests (some 37) a b) := (q_rests a b).pc hk
theorem p_hard (hk : VOK V) (hP : POK V.P) (a b : Int32) : PC V (f_X1_hard (some 0) a b) (f_X3_hard (some 37) a b) := (q_hard hP a b).pc hk
theorem p_shared (hk : VOK V) (hP : POK V.P) (a b : Int32) : PC V (f_X1_shared (some 0) a b) (f_X3_shared (some 37) a b) := (q_shared hP a b).pc hk
theorem p_meets (hk : VOK V) (hP : POK V.P) (a b c : Int32) : PC V (f_X1_meets (some 0) a b c) (f_X3_meets (some 37) a b c) := (q_meets hP a b c).pc hk
theorem p_sure (hk : VOK V) (hP : POK V.P) (a b : Int32) : PC V (f_X1_sure (some 0) a b) (f_X3_sure (some 37) a b) := (q_sure hP hk a b).pc hk
theorem p_sign (hk : VOK V) (a : Int32) : PC V (f_X1_sign (some 0) a) (f_X3_sign (some 37) a) := go_pc (r := (siR V a).1) (V' := (siR V a).2) (g := 0) (fun σ h => c_sign h hk) (fun σ h => m_sign h hk) (si_ok hk) (by decide)
theorem p_end (hk : VOK V) (a : Int32) : PC V (f_X1_end (some 0) a) (f_X3_end (some 37) a) := go_pc (r := (enR V a).1) (V' := (enR V a).2) (g := 0) (fun σ h => c_end h hk) (fun σ h => m_end h hk) (en_ok hk) (by decide)
theorem p_riders (hk : VOK V) : PC V (f_X1_riders (some 0)) (f_X3_riders (some 37)) := go_pc (r := (rdR V).1) (V' := (rdR V).2) (g := 0) (fun σ h => c_riders h hk) (fun σ h => m_riders h hk) (rd_ok hk) (by decide)
theorem p_rule (hk : VOK V) : PC V (f_X1_rule (some 0)) (f_X3_rule (some 37)) := go_pc (r := (ruR V).1) (V' := (ruR V).2) (g := 40) (fun σ h => c_rule h hk) (fun σ h => m_rule h hk) (ru_ok hk) (by decide)
theorem p_set (hk : VOK V) (a b : Int32) : PC V (f_X1_set (some 0) a b) (f_X3_set (some 37) a b) := go_pc (r := (seR V a b).1) (V' := (seR V a b).2) (g := 0) (fun σ h => c_set h) (fun σ h => m_set h) (se_ok hk) (by decide)
theorem p_sheet (hk : VOK V) (a b c d : Int32) : PC V (f_X1_sheet (some 0) a b c d) (f_X3_sheet (some 37) a b c d) := go_pc (r := (shR V a b c d).1) (V' := (shR V a b c d).2) (g := 0) (fun σ h => c_sheet h) (fun σ h => m_sheet h) (sh_ok hk) (by decide)
theorem p_rota (hk : VOK V) (ha : HOK V.P.n V.a) : PC V (f_X1_rota (some 0)) (f_X3_rota (some 37)) := go_pc (r := (rtR V).1) (V' := (rtR V).2) (g := 3) (fun σ h => c_rota h hk) (fun σ h => m_rota h hk) (rt_ok hk ha) (by decide)
theorem p_give (hk : VOK V) (ha : HOK V.P.n V.a) (a b : Int32) : PC V (f_X1_give (some 0) a b) (f_X3_give (some 37) a b) := go_pc (r := (gvR V a b).1) (V' := (gvR V a b).2) (g := 3) (fun σ h => c_give h) (fun σ h => m_give h hk) (gv_ok hk ha) (by decide)
theorem p_ill (hk : VOK V) (ha : HOK V.P.n V.a) (a : Int32) : PC V (f_X1_ill (some 0) a) (f_X3_ill (some 37) a) := go_pc (r := (ilR V a).1) (V' := (ilR V a).2) (g := 3) (fun σ h => c_ill h) (fun σ h => m_ill1 h hk) (il_ok hk ha) (by decide)
theorem p_nights (hk : VOK V) (ha : HOK V.P.n V.a) (a : Int32) : PC V (f_X1_nights (some 0) a) (f_X3_nights (some 37) a) := go_pc (r := (niR V a).1) (V' := (niR V a).2) (g := 3) (fun σ h => c_nights h) (fun σ h => m_nights h hk) (ni_ok hk ha) (by decide)
theorem p_year (hk : VOK V) (ha : HOK V.P.n V.a) : PC V (f_X1_year (some 0)) (f_X3_year (some 37)) := go_pc (r := (yrR V).1) (V' := (yrR V).2) (g := 3) (fun σ h => c_year h hk) (fun σ h => m_year h hk) (yr_ok hk ha) (by decide)
theorem p_undo (hk : VOK V) : PC V (f_X1_undo (some 0)) (f_X3_undo (some 37)) := go_pc (r := (unR V).1) (V' := (unR V).2) (g := 0) (fun σ h => c_undo h hk) (fun σ h => m_undo h hk) (un_ok hk) (by decide)
theorem p_takes (hk : VOK V) (ha : HOK V.P.n V.a) : PC V (f_X1_takes_2 (some 0)) (f_X3_takes (some 37)) := go_pc (r := (tkR V).1) (V' := (tkR V).2) (g := 3) (fun σ h => c_takes2 h) (fun σ h => m_takes h hk) (tk_ok hk ha) (by decide)
theorem p_found (hk : VOK V) (n8 : V.P.n ≤ 8) (a b c : Int32) : PC V (f_X1_found (some 0) a b c) (f_X3_found (some 37) a b c) := go_pc (r := (foR V a b c).1) (V' := (foR V a b c).2) (g := 0) (fun σ h => c_found h hk) (fun σ h => m_found h hk) (fo_ok hk n8) (by decide)
theorem p_forget (hk : VOK V) : PC V (f_X1_forget (some 0)) (f_X3_forget (some 37)) := go_pc (r := (fgR V).1) (V' := (fgR V).2) (g := 0) (fun σ h => c_forget h) (fun σ h => m_forget h) (fg_ok hk) (by decide)
theorem p_law (hk : VOK V) : PC V (f_X1_law (some 0)) (f_X3_law (some 37)) := go_pc (r := (laR V).1) (V' := (laR V).2) (g := 40) (fun σ h => c_law h hk) (fun σ h => m_law h hk) (la_ok hk) (by decide)
theorem p_keep (hk : VOK V) (ha : HOK V.P.n V.a) (a : Int32) : PC V (f_X1_keep (some 0) a) (f_X3_keep (some 37) a) := go_pc (r := (keR V a).1) (V' := (keR V a).2) (g := 3) (fun σ h => c_keep h) (fun σ h => m_keep h) (ke_ok hk ha) (by decide)
theorem p_again (hk : VOK V) (a : Int32) : PC V (f_X1_again (some 0) a) (f_X3_again (some 37) a) := go_pc (r := (agR V a).1) (V' := (agR V a).2) (g := 0) (fun σ h => c_again h hk) (fun σ h => m_again h hk) (ag_ok hk) (by decide)
theorem p_count (hk : VOK V) (a : Int32) : PC V (f_X1_count (some 0) a) (f_X3_count (some 37) a) := go_pc (r := coR V a) (V' := V) (g := 0) (fun σ h => c_count h) (fun σ h => m_count h) hk (by decide)
end calls
section step
variable {V : VS} {σ : Hp} {L : Nat} {xs : Nat → Int32}
theorem lX_at {i : Nat} (h : i < L) (h31 : L < 2 ^ 31) (K : Int32 → Option (Int32 × Hp)) : lX L xs (nI i) K = K (xs i) := by
  unfold lX
  rw [nI_clamp (by omega), if_pos (fun z => by
    rcases z with z | z
    · exact nI_pos (by omega) z
    · omega)]
theorem law_step (hL : L ≤ 320) {i : Nat} (hi5 : i + 5 ≤ L) (hJ : JV σ V) {k0 : Unit → Hp → Option (Int32 × Hp)} {ag : Int32 → Hp → Option (Int32 × Hp)} {Q : Int32 → Hp → Prop} (hag : ∀ V' τ, JV τ V' → hn τ ≤ hn σ + 40 → hu τ ≤ hu σ + 400 → wp (ag (nI (i + 5)) τ) Q) : wp (f_L_law_b23 L xs (some 0) (some 37) (some 68) k0 ag (nI i) σ) Q := by
  have hc := hJ.1
  have hm := hJ.2.1
  have hk := hJ.2.2
  have hP := hc.1.pk
  have ha := hc.1.ok
  have n8 := hc.1.n8
  have a5 : nI i + 5 = nI (i + 5) := nI_add i 5
  have e0 := lX_at (L := L) (xs := xs) (i := i) (by omega) (by omega)
  have e1 : ∀ K : Int32 → Option (Int32 × Hp), lX L xs (nI i + 1) K = K (xs (i + 1)) := fun K => by rw [show nI i + 1 = nI (i + 1) from nI_add i 1]; exact lX_at (by omega) (by omega) K
  have e2 : ∀ K : Int32 → Option (Int32 × Hp), lX L xs (nI i + 2) K = K (xs (i + 2)) := fun K => by rw [show nI i + 2 = nI (i + 2) from nI_add i 2]; exact lX_at (by omega) (by omega) K
  have e3 : ∀ K : Int32 → Option (Int32 × Hp), lX L xs (nI i + 3) K = K (xs (i + 3)) := fun K => by rw [show nI i + 3 = nI (i + 3) from nI_add i 3]; exact lX_at (by omega) (by omega) K
  have e4 : ∀ K : Int32 → Option (Int32 × Hp), lX L xs (nI i + 4) K = K (xs (i + 4)) := fun K => by rw [show nI i + 4 = nI (i + 4) from nI_add i 4]; exact lX_at (by omega) (by omega) K
  have hgo : ∀ V' τ, JV τ V' → hn τ ≤ hn σ + 40 → hu τ ≤ hu σ + 400 → wp (ag (nI i + 5) τ) Q := fun V' τ h1 h2 h3 => by rw [a5]; exact hag V' τ h1 h2 h3
  have fin : ∀ (r : Int32) V' τ, JV τ V' → hn τ ≤ hn σ + 40 → hu τ ≤ hu σ + 400 → wp (if r = r then ag (nI i + 5) τ else lwr 0 τ) Q := fun r V' τ h1 h2 h3 => by rw [if_pos rfl]; exact hgo V' τ h1 h2 h3
  unfold f_L_law_b23
  have c0 : ¬ (Int32.ofNat L - 5 < nI i) := by
    show ¬ (nI L - nI 5 < nI i)
    rw [nI_sub (by omega), nI_lt_l (by omega) (by omega)]
    omega
  rw [if_neg c0, e0, y_jn]
  generalize xs i &&& 63 = x
  refine wp_if (fun _ => ?_) (fun _ => ?_)
  · simp only [e1]
    exact pc_call hJ (p_sign hk (xs (i + 1))) fin
  refine wp_if (fun _ => ?_) (fun _ => ?_)
  · simp only [e1]
    exact pc_call hJ (p_end hk (xs (i + 1))) fin
  refine wp_if (fun _ => ?_) (fun _ => ?_)
  · exact pc_call hJ (p_riders hk) fin
  refine wp_if (fun _ => ?_) (fun _ => ?_)
  · exact pc_call hJ (p_rule hk) fin
  refine wp_if (fun _ => ?_) (fun _ => ?_)
  · simp only [e1, e2]
    exact x_call hJ (c_riderX hc) (fun τ h => m_riderX h) (fun τ h1 h2 h3 => hgo V τ h1 h2 h3)
  refine wp_if (fun _ => ?_) (fun _ => ?_)
  · simp only [e1, e2]
    exact pc_call hJ (p_hard hk hP (xs (i + 1)) (xs (i + 2))) fin
  refine wp_if (fun _ => ?_) (fun _ => ?_)
  · simp only [e1, e2]
    exact pc_call hJ (p_set hk (xs (i + 1)) (xs (i + 2))) fin
  refine wp_if (fun _ => ?_) (fun _ => ?_)
  · simp only [e1, e2, e3, e4]
    exact pc_call hJ (p_sheet hk (xs (i + 1)) (xs (i + 2)) (xs (i + 3)) (xs (i + 4))) fin
  refine wp_if (fun _ => ?_) (fun _ => ?_)
  · exact pc_call hJ (p_rota hk ha) fin
  refine wp_if (fun _ => ?_) (fun _ => ?_)
  · simp only [e1, e2]
    exact pc_call hJ (p_give hk ha (xs (i + 1)) (xs (i + 2))) fin
  refine wp_if (fun _ => ?_) (fun _ => ?_)
  · simp only [e1]
    exact pc_call hJ (p_ill hk ha (xs (i + 1))) fin
  refine wp_if (fun _ => ?_) (fun _ => ?_)
  · simp only [e1]
    exact pc_call hJ (p_nights hk ha (xs (i + 1))) fin
  refine wp_if (fun _ => ?_) (fun _ => ?_)
  · exact pc_call hJ (p_year hk ha) fin
  refine wp_if (fun _ => ?_) (fun _ => ?_)
  · exact pc_call hJ (p_undo hk) fin
  refine wp_if (fun _ => ?_) (fun _ => ?_)
  · exact pc_call hJ (p_gaps hk) fin
  refine wp_if (fun _ => ?_) (fun _ => ?_)
  · simp only [e1]
    exact pc_call hJ (p_first hk (xs (i + 1))) fin
  refine wp_if (fun _ => ?_) (fun _ => ?_)
  · simp only [e1]
    exact pc_call hJ (p_later hk (xs (i + 1))) fin
  refine wp_if (fun _ => ?_) (fun _ => ?_)
  · simp only [e1]
    exact pc_call hJ (p_vigil hk (xs (i + 1))) fin
  refine wp_if (fun _ => ?_) (fun _ => ?_)
  · exact pc_call hJ (p_trade hk hP) fin
  refine wp_if (fun _ => ?_) (fun _ => ?_)
  · exact pc_call hJ (p_easiest hk) fin
  refine wp_if (fun _ => ?_) (fun _ => ?_)
  · exact pc_call hJ (p_fewest hk) fin
  refine wp_if (fun _ => ?_) (fun _ => ?_)
  · exact pc_call hJ (p_bare hk) fin
  refine wp_if (fun _ => ?_) (fun _ => ?_)
  · exact pc_call hJ (p_rotas hk) fin
  refine wp_if (fun _ => ?_) (fun _ => ?_)
  · simp only [e1]
    exact pc_call hJ (p_mended hk hP (xs (i + 1))) fin
  refine wp_if (fun _ => ?_) (fun _ => ?_)
  · exact pc_call hJ (p_takes hk ha) fin
  refine wp_if (fun _ => ?_) (fun _ => ?_)
  · simp only [e1]
    exact pc_call hJ (p_missed hk hP (xs (i + 1))) fin
  refine wp_if (fun _ => ?_) (fun _ => ?_)
  · simp only [e1]
    exact pc_call hJ (p_paid hk hP (xs (i + 1))) fin
  refine wp_if (fun _ => ?_) (fun _ => ?_)
  · exact pc_call hJ (p_fairest hk) fin
  refine wp_if (fun _ => ?_) (fun _ => ?_)
  · exact pc_call hJ (p_away hk) fin
  refine wp_if (fun _ => ?_) (fun _ => ?_)
  · simp only [e1]
    exact pc_call hJ (p_able hk (xs (i + 1))) fin
  refine wp_if (fun _ => ?_) (fun _ => ?_)
  · simp only [e1]
    exact pc_call hJ (p_spent hk (xs (i + 1))) fin
  refine wp_if (fun _ => ?_) (fun _ => ?_)
  · simp only [e1, e2]
    exact pc_call hJ (p_shared hk hP (xs (i + 1)) (xs (i + 2))) fin
  refine wp_if (fun _ => ?_) (fun _ => ?_)
  · exact pc_call hJ (p_thin hk) fin
  refine wp_if (fun _ => ?_) (fun _ => ?_)
  · exact pc_call hJ (p_changes hk) fin
  refine wp_if (fun _ => ?_) (fun _ => ?_)
  · exact pc_call hJ (p_smoothest hk) fin
  refine wp_if (fun _ => ?_) (fun _ => ?_)
  · simp only [e1, e2, e3]
    exact pc_call hJ (p_meets hk hP (xs (i + 1)) (xs (i + 2)) (xs (i + 3))) fin
  refine wp_if (fun _ => ?_) (fun _ => ?_)
  · simp only [e1, e2, e3]
    exact pc_call hJ (p_found hk n8 (xs (i + 1)) (xs (i + 2)) (xs (i + 3))) fin
  refine wp_if (fun _ => ?_) (fun _ => ?_)
  · exact pc_call hJ (p_forget hk) fin
  refine wp_if (fun _ => ?_) (fun _ => ?_)
  · exact pc_call hJ (p_fits hk) fin
  refine wp_if (fun _ => ?_) (fun _ => ?_)
  · simp only [e1, e2]
    exact pc_call hJ (p_sure hk hP (xs (i + 1)) (xs (i + 2))) fin
  refine wp_if (fun _ => ?_) (fun _ => ?_)
  · exact pc_call hJ (p_ask hk) fin
  refine wp_if (fun _ => ?_) (fun _ => ?_)
  · simp only [e1]
    exact pc_call hJ (p_held hk (xs (i + 1))) fin
  refine wp_if (fun _ => ?_) (fun _ => ?_)
  · simp only [e1]
    exact pc_call hJ (p_keystone hk (xs (i + 1))) fin
  refine wp_if (fun _ => ?_) (fun _ => ?_)
  · simp only [e1, e2]
    exact pc_call hJ (p_rests hk (xs (i + 1)) (xs (i + 2))) fin
  refine wp_if (fun _ => ?_) (fun _ => ?_)
  · exact pc_call hJ (p_law hk) fin
  refine wp_if (fun _ => ?_) (fun _ => ?_)
  · simp only [e1, e2]
    exact pc_call hJ (p_years hk (xs (i + 1)) (xs (i + 2))) fin
  refine wp_if (fun _ => ?_) (fun _ => ?_)
  · simp only [e1]
    exact pc_call hJ (p_keep hk ha (xs (i + 1))) fin
  refine wp_if (fun _ => ?_) (fun _ => ?_)
  · simp only [e1]
    exact pc_call hJ (p_again hk (xs (i + 1))) fin
  refine wp_if (fun _ => ?_) (fun _ => ?_)
  · simp only [e1]
    exact pc_call hJ (p_count hk (xs (i + 1))) fin
  refine wp_if (fun _ => ?_) (fun _ => ?_)
  · simp only [e1]
    exact x_call (f := fun x => x) hJ (by rw [Option.map_id']; exact c_rowX hc) (fun τ h => m_rowX h) (fun τ h1 h2 h3 => hgo V τ h1 h2 h3)
  exact hgo V σ hJ (by omega) (by omega)
end step
/-! the law -/
theorem law_all {L : Nat} {xs : Nat → Int32} (hL : L ≤ 320) {k0 : Unit → Hp → Option (Int32 × Hp)} {Q : Int32 → Hp → Prop} {B C : Nat} (hk0 : ∀ τ, hn τ ≤ B → hu τ ≤ C → wp (k0 () τ) Q) : ∀ m n i V σ, L - i < m → m ≤ n → i ≤ L → JV σ V → hn σ + 8 * (L - i) ≤ B → hu σ + 80 * (L - i) ≤ C → wp (lp n (f_L_law_b23 L xs (some 0) (some 37) (some 68) k0) (nI i) σ) Q := by
  intro m
  induction m with
  | zero => intro n i V σ h; omega
  | succ m ih =>
    intro n i V σ hm hn' hi' hJ h1 h2
    obtain ⟨n, rfl⟩ : ∃ k, n = k + 1 := ⟨n - 1, by omega⟩
    show wp (f_L_law_b23 L xs (some 0) (some 37) (some 68) k0 (lp n (f_L_law_b23 L xs (some 0) (some 37) (some 68) k0)) (nI i) σ) Q
    by_cases h5 : i + 5 ≤ L
    · exact law_step hL h5 hJ (fun V' τ hJ' g1 g2 => ih n (i + 5) V' τ (by omega) (by omega) h5 hJ' (by omega) (by omega))
    · unfold f_L_law_b23
      have c0 : Int32.ofNat L - 5 < nI i := by
        show nI L - nI 5 < nI i
        by_cases c : 5 ≤ L
        · rw [nI_sub c, nI_lt_l (by omega) (by omega)]
          omega
        · have : ∀ L, L < 5 → ∀ i, i < 5 → nI L - nI 5 < nI i := by decide
          exact this L (by omega) i (by omega)
      rw [if_pos c0]
      exact hk0 σ (by omega) (by omega)
theorem pl_law (L : Nat) (xs : Nat → Int32) (hL : L ≤ 320) : ∃ σf, f_L_law L xs hp0 = some (1, σf) ∧ hn σf ≤ room_1.cells ∧ hu σf ≤ room_1.slots := by
  have h := law_all (L := L) (xs := xs) hL (k0 := fun (_ : Unit) σ => lwr 1 σ) (Q := fun r τ => r = 1 ∧ hn τ ≤ 601024 ∧ hu τ ≤ 7293034) (B := 601024) (C := 7293034) (fun τ h1 h2 => by
    show wp (if (1 : Int32) = 1 then some (1, τ) else none) _
    rw [if_pos rfl, wp_some]
    exact ⟨rfl, h1, h2⟩) (L + 1) 2000 0 VI hpI (by omega) (by omega) (Nat.zero_le _) JV_I (by rw [hpI_n.1]; omega) (by have := hpI_n.2; omega)
  rw [show nI 0 = (0 : Int32) from rfl, ← law_first] at h
  obtain ⟨r, τ, e, rfl, h1, h2⟩ := h
  exact ⟨τ, e, by rw [show room_1.cells = 601024 from rfl]; exact h1, by rw [show room_1.slots = 7293034 from rfl]; exact h2⟩
