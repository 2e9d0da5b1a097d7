/-! PURE 116: questions, whatever is asked -/
def QP (V : VS) (c m : Hp → Option (Int32 × Hp)) : Prop := ∃ r w, (∀ σ, CV σ V → wp (c σ) (QuC σ r w)) ∧ ∀ σ, MW σ V → wp (m σ) (QuM σ r w)
section pairs
variable {V : VS} {σ : Hp} {r : Int32}
theorem qc_no (h : CV σ V) : QuC σ r none r σ := ⟨rfl, Fr.refl, h.2.1, rfl, fun _ => rfl⟩
theorem qm_no (h : MW σ V) : QuM σ r none r (wI σ 37 11 0) := ⟨rfl, Fr.refl.putI rfl, (hi_ni (by decide)).trans h.2.1, hi_ni (by decide), fun _ => rfl⟩
theorem m_thr0 (h : MW σ V) {K : Hp → Option (Int32 × Hp)} {Q : Int32 → Hp → Prop} (hK : Sh (wI σ 37 11 0) → hi (wI σ 37 11 0) 37 3 = nI V.P.n → hi (wI σ 37 11 0) 37 1 = nI V.P.hrs → wp (K (wI σ 37 11 0)) Q) : wp (pI 0 2 11 σ (some 37) 0 K) Q := by
  have x := (h.thr (v := 0)).1
  rw [wp_pI]
  exact ⟨so_37 h.1.s, rfl, hK x.s x.n x.h⟩
theorem q_one {v : Int32} {b : Nat} (hb : b < 2 ^ 31) (c : 0 ≤ v ∧ v ≤ nI b) : ∃ k, k ≤ b ∧ v = nI k := by
  obtain ⟨k, hk', rfl⟩ := lo_pos c.1
  exact ⟨k, nI_b1 hk' hb c.2, rfl⟩
theorem q_one1 {v : Int32} {b : Nat} (hb : b < 2 ^ 31) (c : 1 ≤ v ∧ v ≤ nI b) : ∃ k, 1 ≤ k ∧ k ≤ b ∧ v = nI k := by
  obtain ⟨k, hk', rfl⟩ := lo_pos (x := v) (Int32.le_trans (show (0 : Int32) ≤ 1 by decide) c.1)
  have h1 := c.1
  rw [l_1le (by omega)] at h1
  exact ⟨k, h1, nI_b1 hk' hb c.2, rfl⟩
theorem q_two1 {v : Int32} {b : Nat} (hb : b < 2 ^ 31) (c : 2 ≤ v ∧ v ≤ nI b) : ∃ k, 2 ≤ k ∧ k ≤ b ∧ v = nI k := by
  obtain ⟨k, hk', rfl⟩ := lo_pos (x := v) (Int32.le_trans (show (0 : Int32) ≤ 2 by decide) c.1)
  have h1 := c.1
  rw [n_2, nI_le_l (by decide) hk'] at h1
  exact ⟨k, h1, nI_b1 hk' hb c.2, rfl⟩
theorem q_gaps : QP V (f_X1_gaps (some 0)) (f_X3_gaps (some 37)) := ⟨_, _, fun _ h => c_gaps h.1 h.2.1, fun _ h => m_gaps h.1 h.2.1⟩
theorem q_easiest : QP V (f_X1_easiest (some 0)) (f_X3_easiest (some 37)) := ⟨_, _, fun _ h => c_easiest h.1 h.2.1, fun _ h => m_easiest h.1 h.2.1⟩
theorem q_fewest : QP V (f_X1_fewest (some 0)) (f_X3_fewest (some 37)) := ⟨_, _, fun _ h => c_fewest h.1 h.2.1, fun _ h => m_fewest h.1 h.2.1⟩
theorem q_bare : QP V (f_X1_bare (some 0)) (f_X3_bare (some 37)) := ⟨_, _, fun _ h => c_bare h.1 h.2.1, fun _ h => m_bare h.1 h.2.1⟩
theorem q_rotas : QP V (f_X1_rotas (some 0)) (f_X3_rotas (some 37)) := ⟨_, _, fun _ h => c_rotas h.1 h.2.1, fun _ h => m_rotas h.1 h.2.1⟩
theorem q_fairest : QP V (f_X1_fairest (some 0)) (f_X3_fairest (some 37)) := ⟨_, _, fun _ h => c_fairest h.1 h.2.1, fun _ h => m_fairest h.1 h.2.1⟩
theorem q_away : QP V (f_X1_away (some 0)) (f_X3_away (some 37)) := ⟨_, _, fun _ h => c_away h.1 h.2.1, fun _ h => m_away h.1 h.2.1⟩
theorem q_thin : QP V (f_X1_thin (some 0)) (f_X3_thin (some 37)) := ⟨_, _, fun _ h => c_thin h.1 h.2.1, fun _ h => m_thin h.1 h.2.1⟩
theorem q_changes : QP V (f_X1_changes (some 0)) (f_X3_changes (some 37)) := ⟨_, _, fun _ h => c_changes h.1 h.2.1, fun _ h => m_changes h.1 h.2.1⟩
theorem q_smoothest : QP V (f_X1_smoothest (some 0)) (f_X3_smoothest (some 37)) := ⟨_, _, fun _ h => c_smoothest h.1 h.2.1, fun _ h => m_smoothest h.1 h.2.1⟩
theorem q_trade (hP : POK V.P) : QP V (f_X1_trade (some 0)) (f_X3_trade (some 37)) := by
  have h1 := hP.2.1
  by_cases c : V.P.hrs = 1
  · refine ⟨-2, none, fun σ h => ?_, fun σ h => ?_⟩
    · unfold f_X1_trade
      rw [wp_gI, h.1.h, c, if_pos (show nI 1 = 1 from rfl), wp_some]
      exact ⟨so_0 h.1.s, qc_no h⟩
    · unfold f_X3_trade
      refine m_thr0 h (fun s e3 e1 => ?_)
      rw [wp_gI, e1, c, if_pos (show nI 1 = 1 from rfl), wp_some]
      exact ⟨so_37 s, qm_no h⟩
  · exact ⟨_, _, fun σ h => c_trade h.1 h.2.1 (by omega), fun σ h => m_trade h.1 h.2.1 (by omega)⟩
theorem q_mended (hP : POK V.P) (v : Int32) : QP V (f_X1_mended (some 0) v) (f_X3_mended (some 37) v) := by
  have n8 := hP.1
  by_cases c : isR (nI V.P.n) v
  · obtain ⟨q, hq, rfl⟩ := (isR_iff (by omega)).mp c
    exact ⟨_, _, fun σ h => c_mended h.1 h.2.1 hq, fun σ h => m_mended h.1 h.2.1 hq⟩
  · refine ⟨-1, none, fun σ h => ?_, fun σ h => ?_⟩
    · unfold f_X1_mended
      rw [wp_ob]
      refine ⟨so_0 h.1.s, ?_⟩
      rw [w_isRider h.1.s, h.1.n, b2_ite, if_neg c, wp_some]
      exact qc_no h
    · unfold f_X3_mended
      refine m_thr0 h (fun s e3 e1 => ?_)
      rw [wp_ob]
      refine ⟨so_37 s, ?_⟩
      rw [w_isMan s, e3, b2_ite, if_neg c, wp_some]
      exact qm_no h
theorem q_missed (hP : POK V.P) (v : Int32) : QP V (f_X1_missed (some 0) v) (f_X3_missed (some 37) v) := by
  have n8 := hP.1
  by_cases c : isR (nI V.P.n) v
  · obtain ⟨q, hq, rfl⟩ := (isR_iff (by omega)).mp c
    exact ⟨_, _, fun σ h => c_missed h.1 h.2.1 hq, fun σ h => m_missed h.1 h.2.1 hq⟩
  · refine ⟨-1, none, fun σ h => ?_, fun σ h => ?_⟩
    · unfold f_X1_missed
      rw [wp_ob]
      refine ⟨so_0 h.1.s, ?_⟩
      rw [w_isRider h.1.s, h.1.n, b2_ite, if_neg c, wp_some]
      exact qc_no h
    · unfold f_X3_missed
      refine m_thr0 h (fun s e3 e1 => ?_)
      rw [wp_ob]
      refine ⟨so_37 s, ?_⟩
      rw [w_isMan s, e3, b2_ite, if_neg c, wp_some]
      exact qm_no h
theorem q_paid (hP : POK V.P) (v : Int32) : QP V (f_X1_paid (some 0) v) (f_X3_paid (some 37) v) := by
  have n8 := hP.1
  by_cases c : isR (nI V.P.n) v
  · obtain ⟨q, hq, rfl⟩ := (isR_iff (by omega)).mp c
    exact ⟨_, _, fun σ h => c_paid h.1 h.2.1 hq, fun σ h => m_paid h.1 h.2.1 hq⟩
  · refine ⟨-1, none, fun σ h => ?_, fun σ h => ?_⟩
    · unfold f_X1_paid
      rw [wp_ob]
      refine ⟨so_0 h.1.s, ?_⟩
      rw [w_isRider h.1.s, h.1.n, b2_ite, if_neg c, wp_some]
      exact qc_no h
    · unfold f_X3_paid
      refine m_thr0 h (fun s e3 e1 => ?_)
      rw [wp_ob]
      refine ⟨so_37 s, ?_⟩
      rw [w_isMan s, e3, b2_ite, if_neg c, wp_some]
      exact qm_no h
theorem q_later (v : Int32) : QP V (f_X1_later (some 0) v) (f_X3_later (some 37) v) := by
  by_cases c : 0 ≤ v ∧ v ≤ 60
  · obtain ⟨k, kb, rfl⟩ := q_one (b := 60) (by decide) c
    have kl : k < 60 + 1 := by omega
    exact ⟨_, _, fun σ h => c_later h.1 h.2.1 kb, fun σ h => m_later h.1 h.2.1 kb⟩
  · refine ⟨-1, none, fun σ h => ?_, fun σ h => ?_⟩
    · unfold f_X1_later
      rw [w_in_0_60, b2_ite, if_neg c, wp_some]
      exact qc_no h
    · unfold f_X3_later
      refine m_thr0 h (fun s e3 e1 => ?_)
      rw [w_in3, b2_ite, if_neg c, wp_some]
      exact qm_no h
theorem q_vigil (v : Int32) : QP V (f_X1_vigil (some 0) v) (f_X3_vigil (some 37) v) := by
  by_cases c : 0 ≤ v ∧ v ≤ 60
  · obtain ⟨k, kb, rfl⟩ := q_one (b := 60) (by decide) c
    have kl : k < 60 + 1 := by omega
    exact ⟨_, _, fun σ h => c_vigil h.1 h.2.1 kb, fun σ h => m_vigil h.1 h.2.1 kb⟩
  · refine ⟨-1, none, fun σ h => ?_, fun σ h => ?_⟩
    · unfold f_X1_vigil
      rw [w_in_0_60, b2_ite, if_neg c, wp_some]
      exact qc_no h
    · unfold f_X3_vigil
      refine m_thr0 h (fun s e3 e1 => ?_)
      rw [w_in3, b2_ite, if_neg c, wp_some]
      exact qm_no h
theorem q_able (v : Int32) : QP V (f_X1_able (some 0) v) (f_X3_able (some 37) v) := by
  by_cases c : 0 ≤ v ∧ v ≤ 7
  · obtain ⟨k, kb, rfl⟩ := q_one (b := 7) (by decide) c
    have kl : k < 7 + 1 := by omega
    exact ⟨_, _, fun σ h => c_able h.1 h.2.1 kl, fun σ h => m_able h.1 h.2.1 kl⟩
  · refine ⟨-1, none, fun σ h => ?_, fun σ h => ?_⟩
    · unfold f_X1_able
      rw [w_in_0_7, b2_ite, if_neg c, wp_some]
      exact qc_no h
    · unfold f_X3_able
      refine m_thr0 h (fun s e3 e1 => ?_)
      rw [w_isHour3, b2_ite, if_neg c, wp_some]
      exact qm_no h
theorem q_spent (v : Int32) : QP V (f_X1_spent (some 0) v) (f_X3_spent (some 37) v) := by
  by_cases c : 0 ≤ v ∧ v ≤ 999
  · obtain ⟨k, kb, rfl⟩ := q_one (b := 999) (by decide) c
    have kl : k < 999 + 1 := by omega
    exact ⟨_, _, fun σ h => c_spent h.1 h.2.1 kb, fun σ h => m_spent h.1 h.2.1 kb⟩
  · refine ⟨-1, none, fun σ h => ?_, fun σ h => ?_⟩
    · unfold f_X1_spent
      rw [w_in_0_999, b2_ite, if_neg c, wp_some]
      exact qc_no h
    · unfold f_X3_spent
      refine m_thr0 h (fun s e3 e1 => ?_)
      rw [w_in3, b2_ite, if_neg c, wp_some]
      exact qm_no h
theorem q_held (v : Int32) : QP V (f_X1_held (some 0) v) (f_X3_held (some 37) v) := by
  by_cases c : 0 ≤ v ∧ v ≤ 10
  · obtain ⟨k, kb, rfl⟩ := q_one (b := 10) (by decide) c
    have kl : k < 10 + 1 := by omega
    exact ⟨_, _, fun σ h => c_held h.1 h.2.1 kb, fun σ h => m_heldQ h.1 h.2.1 kb⟩
  · refine ⟨-1, none, fun σ h => ?_, fun σ h => ?_⟩
    · unfold f_X1_held
      rw [w_in_0_10, b2_ite, if_neg c, wp_some]
      exact qc_no h
    · unfold f_X3_held
      refine m_thr0 h (fun s e3 e1 => ?_)
      rw [w_in3, b2_ite, if_neg c, wp_some]
      exact qm_no h
theorem q_keystone (v : Int32) : QP V (f_X1_keystone (some 0) v) (f_X3_keystone (some 37) v) := by
  by_cases c : 0 ≤ v ∧ v ≤ 10
  · obtain ⟨k, kb, rfl⟩ := q_one (b := 10) (by decide) c
    have kl : k < 10 + 1 := by omega
    exact ⟨_, _, fun σ h => c_keystone h.1 h.2.1 kb, fun σ h => m_keystone h.1 h.2.1 kb⟩
  · refine ⟨-1, none, fun σ h => ?_, fun σ h => ?_⟩
    · unfold f_X1_keystone
      rw [w_in_0_10, b2_ite, if_neg c, wp_some]
      exact qc_no h
    · unfold f_X3_keystone
      refine m_thr0 h (fun s e3 e1 => ?_)
      rw [w_in3, b2_ite, if_neg c, wp_some]
      exact qm_no h
theorem q_first (v : Int32) : QP V (f_X1_first (some 0) v) (f_X3_first (some 37) v) := by
  by_cases c : 1 ≤ v ∧ v ≤ 60
  · obtain ⟨k, k1, kb, rfl⟩ := q_one1 (b := 60) (by decide) c
    exact ⟨_, _, fun σ h => c_first h.1 h.2.1 k1 kb, fun σ h => m_first h.1 h.2.1 k1 kb⟩
  · refine ⟨-1, none, fun σ h => ?_, fun σ h => ?_⟩
    · unfold f_X1_first
      rw [w_in_1_60, b2_ite, if_neg c, wp_some]
      exact qc_no h
    · unfold f_X3_first
      refine m_thr0 h (fun s e3 e1 => ?_)
      rw [w_in3, b2_ite, if_neg c, wp_some]
      exact qm_no h
theorem q_years (u v : Int32) : QP V (f_X1_years (some 0) u v) (f_X3_years (some 37) u v) := by
  by_cases c : 1 ≤ v ∧ v ≤ 60
  · obtain ⟨k, k1, kb, rfl⟩ := q_one1 (b := 60) (by decide) c
    exact ⟨_, _, fun σ h => c_years h.1 h.2.1 k1 kb, fun σ h => m_years h.1 h.2.1 k1 kb⟩
  · refine ⟨-1, none, fun σ h => ?_, fun σ h => ?_⟩
    · unfold f_X1_years
      rw [w_in_1_60, b2_ite, if_neg c, wp_some]
      exact qc_no h
    · unfold f_X3_years
      refine m_thr0 h (fun s e3 e1 => ?_)
      rw [w_in3, b2_ite, if_neg c, wp_some]
      exact qm_no h
theorem q_rests (u v : Int32) : QP V (f_X1_rests (some 0) u v) (f_X3_rests (some 37) u v) := by
  by_cases c : 0 ≤ u ∧ u ≤ 9
  · by_cases d : 0 ≤ v ∧ v ≤ 9
    · obtain ⟨k, kb, rfl⟩ := q_one (b := 9) (by decide) c
      obtain ⟨j, jb, rfl⟩ := q_one (b := 9) (by decide) d
      exact ⟨_, _, fun σ h => c_rests h.1 h.2.1 (by omega) (by omega), fun σ h => m_rests h.1 h.2.1 (by omega) (by omega)⟩
    · refine ⟨-1, none, fun σ h => ?_, fun σ h => ?_⟩
      · unfold f_X1_rests
        rw [w_in_0_9, b2_ite, if_pos c, w_in_0_9, b2_ite, if_neg d, wp_some]
        exact qc_no h
      · unfold f_X3_rests
        refine m_thr0 h (fun s e3 e1 => ?_)
        rw [w_in3, b2_ite, if_pos c, w_in3, b2_ite, if_neg d, wp_some]
        exact qm_no h
  · refine ⟨-1, none, fun σ h => ?_, fun σ h => ?_⟩
    · unfold f_X1_rests
      rw [w_in_0_9, b2_ite, if_neg c, wp_some]
      exact qc_no h
    · unfold f_X3_rests
      refine m_thr0 h (fun s e3 e1 => ?_)
      rw [w_in3, b2_ite, if_neg c, wp_some]
      exact qm_no h
theorem q_hard (hP : POK V.P) (u v : Int32) : QP V (f_X1_hard (some 0) u v) (f_X3_hard (some 37) u v) := by
  have n8 := hP.1
  by_cases c : isR (nI V.P.n) u
  · by_cases d : 0 ≤ v ∧ v ≤ 7
    · obtain ⟨q, hq, rfl⟩ := (isR_iff (by omega)).mp c
      obtain ⟨j, jb, rfl⟩ := q_one (b := 7) (by decide) d
      exact ⟨_, _, fun σ h => c_hardQ h.1 h.2.1 hq (by omega), fun σ h => m_hardQ h.1 h.2.1 hq (by omega)⟩
    · refine ⟨-1, none, fun σ h => ?_, fun σ h => ?_⟩
      · unfold f_X1_hard
        rw [wp_ob]
        refine ⟨so_0 h.1.s, ?_⟩
        rw [w_isRider h.1.s, h.1.n, b2_ite, if_pos c, w_in_0_7, b2_ite, if_neg d, wp_some]
        exact qc_no h
      · unfold f_X3_hard
        refine m_thr0 h (fun s e3 e1 => ?_)
        rw [wp_ob]
        refine ⟨so_37 s, ?_⟩
        rw [w_isMan s, e3, b2_ite, if_pos c, w_isHour3, b2_ite, if_neg d, wp_some]
        exact qm_no h
  · refine ⟨-1, none, fun σ h => ?_, fun σ h => ?_⟩
    · unfold f_X1_hard
      rw [wp_ob]
      refine ⟨so_0 h.1.s, ?_⟩
      rw [w_isRider h.1.s, h.1.n, b2_ite, if_neg c, wp_some]
      exact qc_no h
    · unfold f_X3_hard
      refine m_thr0 h (fun s e3 e1 => ?_)
      rw [wp_ob]
      refine ⟨so_37 s, ?_⟩
      rw [w_isMan s, e3, b2_ite, if_neg c, wp_some]
      exact qm_no h
theorem q_two (n8 : V.P.n ≤ 8) {u v : Int32} (c : isTwo (nI V.P.n) u v) : ∃ r q, r < V.P.n ∧ q < V.P.n ∧ r ≠ q ∧ u = nI r ∧ v = nI q := by
  obtain ⟨c1, c2, c3⟩ := c
  obtain ⟨r, hr', rfl⟩ := (isR_iff (by omega)).mp c1
  obtain ⟨q, hq, rfl⟩ := (isR_iff (by omega)).mp c2
  exact ⟨r, q, hr', hq, fun z => c3 (by rw [z]), rfl, rfl⟩
theorem q_shared (hP : POK V.P) (u v : Int32) : QP V (f_X1_shared (some 0) u v) (f_X3_shared (some 37) u v) := by
  have n8 := hP.1
  by_cases c : isTwo (nI V.P.n) u v
  · obtain ⟨r, q, hr', hq, hrq, rfl, rfl⟩ := q_two n8 c
    exact ⟨_, _, fun σ h => c_shared h.1 h.2.1 hr' hq hrq, fun σ h => m_shared h.1 h.2.1 hr' hq hrq⟩
  · refine ⟨-1, none, fun σ h => ?_, fun σ h => ?_⟩
    · unfold f_X1_shared
      rw [wp_ob]
      refine ⟨so_0 h.1.s, ?_⟩
      rw [w_isPair h.1.s, h.1.n, b2_ite, if_neg c, wp_some]
      exact qc_no h
    · unfold f_X3_shared
      refine m_thr0 h (fun s e3 e1 => ?_)
      rw [wp_ob]
      refine ⟨so_37 s, ?_⟩
      rw [w_areTwo s, e3, b2_ite, if_neg c, wp_some]
      exact qm_no h
theorem q_meets (hP : POK V.P) (u v w : Int32) : QP V (f_X1_meets (some 0) u v w) (f_X3_meets (some 37) u v w) := by
  have n8 := hP.1
  by_cases c : isTwo (nI V.P.n) u v
  · by_cases d : 2 ≤ w ∧ w ≤ 40
    · obtain ⟨r, q, hr', hq, hrq, rfl, rfl⟩ := q_two n8 c
      obtain ⟨p, p2, p40, rfl⟩ := q_two1 (b := 40) (by decide) d
      exact ⟨_, _, fun σ h => c_meets h.1 h.2.1 hr' hq hrq p2 p40, fun σ h => m_meets h.1 h.2.1 hr' hq hrq p2 p40⟩
    · refine ⟨-1, none, fun σ h => ?_, fun σ h => ?_⟩
      · unfold f_X1_meets
        rw [wp_ob]
        refine ⟨so_0 h.1.s, ?_⟩
        rw [w_isPair h.1.s, h.1.n, b2_ite, if_pos c, w_in_2_40, b2_ite, if_neg d, wp_some]
        exact qc_no h
      · unfold f_X3_meets
        refine m_thr0 h (fun s e3 e1 => ?_)
        rw [wp_ob]
        refine ⟨so_37 s, ?_⟩
        rw [w_areTwo s, e3, b2_ite, if_pos c, w_in3, b2_ite, if_neg d, wp_some]
        exact qm_no h
  · refine ⟨-1, none, fun σ h => ?_, fun σ h => ?_⟩
    · unfold f_X1_meets
      rw [wp_ob]
      refine ⟨so_0 h.1.s, ?_⟩
      rw [w_isPair h.1.s, h.1.n, b2_ite, if_neg c, wp_some]
      exact qc_no h
    · unfold f_X3_meets
      refine m_thr0 h (fun s e3 e1 => ?_)
      rw [wp_ob]
      refine ⟨so_37 s, ?_⟩
      rw [w_areTwo s, e3, b2_ite, if_neg c, wp_some]
      exact qm_no h
theorem q_fits (hk : VOK V) : QP V (f_X1_fits (some 0)) (f_X3_fits (some 37)) := ⟨_, _, fun _ h => c_fits h.1 h.2.1 hk.2.2.2 h.2.2.2.2.1, fun _ h => m_fits h.1 h.2.1 hk.2.2.2 h.2.2.2.2.1⟩
theorem q_ask (hk : VOK V) : QP V (f_X1_ask (some 0)) (f_X3_ask (some 37)) := ⟨_, _, fun _ h => c_ask h.1 h.2.1 hk.2.2.2 h.2.2.2.2.1, fun _ h => m_ask h.1 h.2.1 hk.2.2.2 h.2.2.2.2.1⟩
theorem q_sure (hP : POK V.P) (hk : VOK V) (u v : Int32) : QP V (f_X1_sure (some 0) u v) (f_X3_sure (some 37) u v) := by
  have n8 := hP.1
  have h8 := hP.2.1.2
  by_cases c : isR (nI V.P.hrs) u
  · by_cases d : isR (nI V.P.n) v
    · obtain ⟨r, hr', rfl⟩ := (isR_iff (by omega)).mp c
      obtain ⟨q, hq, rfl⟩ := (isR_iff (by omega)).mp d
      exact ⟨_, _, fun _ h => c_sure h.1 h.2.1 hk.2.2.2 h.2.2.2.2.1 hr' hq, fun _ h => m_sure h.1 h.2.1 hk.2.2.2 h.2.2.2.2.1 hr' hq⟩
    · refine ⟨-1, none, fun σ h => ?_, fun σ h => ?_⟩
      · unfold f_X1_sure
        rw [wp_ob]
        refine ⟨so_0 h.1.s, ?_⟩
        rw [w_isHour h.1.s, h.1.h, b2_ite, if_pos c, wp_ob]
        refine ⟨so_0 h.1.s, ?_⟩
        rw [w_isRider h.1.s, h.1.n, b2_ite, if_neg d, wp_some]
        exact qc_no h
      · unfold f_X3_sure
        refine m_thr0 h (fun s e3 e1 => ?_)
        rw [wp_gI, e1]
        refine ⟨so_37 s, ?_⟩
        rw [w_in3, b2_ite, if_pos c, wp_ob]
        refine ⟨so_37 s, ?_⟩
        rw [w_isMan s, e3, b2_ite, if_neg d, wp_some]
        exact qm_no h
  · refine ⟨-1, none, fun σ h => ?_, fun σ h => ?_⟩
    · unfold f_X1_sure
      rw [wp_ob]
      refine ⟨so_0 h.1.s, ?_⟩
      rw [w_isHour h.1.s, h.1.h, b2_ite, if_neg c, wp_some]
      exact qc_no h
    · unfold f_X3_sure
      refine m_thr0 h (fun s e3 e1 => ?_)
      rw [wp_gI, e1]
      refine ⟨so_37 s, ?_⟩
      rw [w_in3, b2_ite, if_neg c, wp_some]
      exact qm_no h
end pairs
