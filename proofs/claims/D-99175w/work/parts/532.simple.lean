/-! PURE 85: end, set, found, forget -/
def sT (V : VS) (T : TX) : VS := (V.P, V.a, T, V.U, V.K, V.F, V.w, V.ch)
def sP (V : VS) (P : Pk) : VS := (P, V.a, V.T, V.U, V.K, V.F, V.w, V.ch)
def sF (V : VS) (F : FD) : VS := (V.P, V.a, V.T, V.U, V.K, F, V.w, V.ch)
def enR (V : VS) (v : Int32) : Int32 × VS := if 0 ≤ v ∧ v ≤ nI V.T.1 then (1, sT V (ix v, V.T.2)) else (0, V)
def setP (P : Pk) (what v : Nat) : Pk := (P.n, (if what = 0 then v else P.hrs), (if what = 0 then P.beats else v), P.most, P.width, P.can, P.rule)
def seR (V : VS) (what v : Int32) : Int32 × VS := if what = 0 ∧ 1 ≤ v ∧ v ≤ 8 then (nI V.P.hrs, sP V (setP V.P 0 (ix v))) else if what = 1 ∧ 0 ≤ v ∧ v ≤ 9 then (nI V.P.beats, sP V (setP V.P 1 (ix v))) else (-1, V)
def fdP (F : FD) (h r : Nat) (b : Bool) : FD := (F.m + 1, up1 F.h F.m h, up1 F.r F.m r, up1 F.b F.m b)
def foR (V : VS) (h r b : Int32) : Int32 × VS := if (0 ≤ h ∧ h ≤ 7) ∧ isR (nI V.P.n) r ∧ (0 ≤ b ∧ b ≤ 1) ∧ V.F.m ≠ 12 then (nI (V.F.m + 1), sF V (fdP V.F (ix h) (ix r) (decide (b = 1)))) else (-1, V)
def fgR (V : VS) : Int32 × VS := (nI V.F.m, sF V (0, V.F.2))
theorem i1_of {b : Int32} (h : 0 ≤ b ∧ b ≤ 1) : b = 0 ∨ b = 1 := by
  obtain ⟨k, hk', rfl⟩ := lo_pos h.1
  have : k ≤ 1 := by have := h.2; rw [n_1, nI_le_l (by omega) (by decide)] at this; exact this
  obtain rfl | rfl : k = 0 ∨ k = 1 := by omega
  · exact Or.inl rfl
  · exact Or.inr rfl
theorem nI_b1 {k m : Nat} (h : k < 2 ^ 31) (hm : m < 2 ^ 31) (h2 : nI k ≤ nI m) : k ≤ m := by rw [nI_le_l h hm] at h2; exact h2
section vok
variable {V : VS}
theorem en_ok (h : VOK V) {v : Int32} : VOK (enR V v).2 := by
  unfold enR
  split
  · rename_i c
    obtain ⟨k, hk', rfl⟩ := lo_pos c.1
    have := nI_b1 hk' (by have := h.1.1; omega) c.2
    obtain ⟨⟨t1, t2⟩, h2, h3, h4⟩ := h
    rw [ix_nI hk']
    exact ⟨⟨by show k ≤ 80; omega, fun p hp => t2 p (by have : p < k := hp; omega)⟩, h2, h3, h4⟩
  · exact h
theorem se_ok (h : VOK V) {w v : Int32} : VOK (seR V w v).2 := by
  unfold seR
  split
  · exact h
  · split
    · exact h
    · exact h
theorem fo_ok (h : VOK V) {a b c : Int32} (n8 : V.P.n ≤ 8) : VOK (foR V a b c).2 := by
  unfold foR
  split
  · rename_i q
    obtain ⟨q1, q2, q3, q4⟩ := q
    obtain ⟨k, hk', rfl⟩ := lo_pos q1.1
    have k7 := nI_b1 (m := 7) hk' (by decide) q1.2
    obtain ⟨r, hr', rfl⟩ := (isR_iff (by omega)).mp q2
    obtain ⟨h1, h2, h3, h4, h5⟩ := h
    rw [ix_nI hk', ix_nI (by omega)]
    refine ⟨h1, h2, h3, by show V.F.m + 1 ≤ 12; omega, fun j hj => ?_⟩
    have hj' : j < V.F.m + 1 := hj
    show up1 V.F.h V.F.m k j < 8 ∧ up1 V.F.r V.F.m r j < V.P.n
    unfold up1
    by_cases e : j = V.F.m
    · rw [if_pos e, if_pos e]; exact ⟨by omega, hr'⟩
    · rw [if_neg e, if_neg e]; exact h5 j (by omega)
  · exact h
theorem fg_ok (h : VOK V) : VOK (fgR V).2 := ⟨h.1, h.2.1, h.2.2.1, Nat.zero_le _, fun k hk' => absurd hk' (Nat.not_lt_zero _)⟩
end vok
section simple
variable {V : VS} {σ τ : Hp} {m : Nat}
theorem GoC.same (h : CV σ V) {r : Int32} : GoC σ m r V r σ := ⟨rfl, h, [], [], (Fr.refl (D := []) (F := []) (G := [])).frs h.1.s rfl |>.mono rfl (Nat.zero_le _), rfl⟩
theorem GoM.thr (h : MW σ V) {r : Int32} : GoM σ r V r (wI σ 37 11 0) := ⟨rfl, h.frs (D := []) (F := []) (G := [11]) ((Fr.refl.putI rfl).frs h.1.s rfl) rfl, [], [11], Fr.refl.putI rfl, rfl⟩
theorem MW.thr (h : MW σ V) {v : Int32} : MW (wI σ 37 11 v) V := h.frs (D := []) (F := []) (G := [11]) ((Fr.refl.putI rfl).frs h.1.s rfl) rfl
theorem c_end (h : CV σ V) (hk : VOK V) {v : Int32} : wp (f_X1_end (some 0) v σ) (GoC σ 0 (enR V v).1 (enR V v).2) := by
  have h0 := h
  obtain ⟨x, s, t, u, f, r, ch⟩ := h
  have t80 := hk.1.1
  unfold f_X1_end enR
  rw [wp_gI, t.1]
  refine ⟨so_0 x.s, ?_⟩
  rw [w_in0, b2_ite]
  by_cases c : 0 ≤ v ∧ v ≤ nI V.T.1
  · rw [if_pos c, if_pos c, wp_pI]
    refine ⟨so_0 x.s, rfl, ?_⟩
    rw [wp_r1]
    obtain ⟨k, hk', rfl⟩ := lo_pos c.1
    have hkt := nI_b1 hk' (by omega) c.2
    have g : Fr [] [10] [] σ (wI σ 0 10 (nI k)) := Fr.refl.putI rfl
    have fs := g.frs x.s rfl
    rw [ix_nI hk']
    exact ⟨rfl, ⟨x.frs fs rfl, s.frs fs rfl, ⟨hi_eq, fun p hp => by rw [hi_ne (by decide)]; exact t.2 p (Nat.lt_of_lt_of_le hp hkt)⟩, u.frs fs (g.frd rfl) rfl, f.frs fs rfl, r.frs fs rfl, (fs.i (by decide) rfl).trans ch⟩, [], [10], fs, rfl⟩
  · rw [if_neg c, if_neg c, wp_r0]
    exact GoC.same h0
theorem m_end (h : MW σ V) (hk : VOK V) {v : Int32} : wp (f_X3_end (some 37) v σ) (GoM σ (enR V v).1 (enR V v).2) := by
  have h0 := h
  have h1 := h.thr (v := 0)
  obtain ⟨x, s, t, u, f, r, ch⟩ := h1
  have t80 := hk.1.1
  unfold f_X3_end enR
  rw [wp_pI]
  refine ⟨so_37 h0.1.s, rfl, ?_⟩
  rw [wp_gI, t.1]
  refine ⟨so_37 x.s, ?_⟩
  rw [w_in3, b2_ite]
  by_cases c : 0 ≤ v ∧ v ≤ nI V.T.1
  · rw [if_pos c, if_pos c, wp_pI]
    refine ⟨so_37 x.s, rfl, ?_⟩
    rw [wp_r1]
    obtain ⟨k, hk', rfl⟩ := lo_pos c.1
    have hkt := nI_b1 hk' (by omega) c.2
    have g : Fr [] [] [8] (wI σ 37 11 0) (wI (wI σ 37 11 0) 37 8 (nI k)) := Fr.refl.putI rfl
    have fs := g.frs x.s rfl
    rw [ix_nI hk']
    exact ⟨rfl, ⟨x.frs fs rfl, s.frs fs rfl, ⟨hi_eq, fun p hp => by rw [hi_ne (show 42 ≠ 37 by decide)]; exact t.2.1 p (Nat.lt_of_lt_of_le hp hkt), t.2.2⟩, u.frs fs rfl, f.frs fs rfl, r.frs fs rfl, (fs.i (by decide) rfl).trans ch⟩, [], [8, 11], (Fr.refl.putI rfl).putI rfl, rfl⟩
  · rw [if_neg c, if_neg c, wp_r0]
    exact GoM.thr h0
theorem c_forget (h : CV σ V) : wp (f_X1_forget (some 0) σ) (GoC σ 0 (fgR V).1 (fgR V).2) := by
  obtain ⟨x, s, t, u, f, r, ch⟩ := h
  unfold f_X1_forget
  rw [wp_gI, f.1]
  refine ⟨so_0 x.s, ?_⟩
  rw [wp_pI]
  refine ⟨so_0 x.s, rfl, ?_⟩
  rw [wp_some]
  have g : Fr [] [44] [] σ (wI σ 0 44 0) := Fr.refl.putI rfl
  have fs := g.frs x.s rfl
  exact ⟨rfl, ⟨x.frs fs rfl, s.frs fs rfl, t.frs fs rfl, u.frs fs (g.frd rfl) rfl, ⟨hi_eq, fun k hk' => absurd hk' (Nat.not_lt_zero _)⟩, r.frs fs rfl, (fs.i (by decide) rfl).trans ch⟩, [], [44], fs, rfl⟩
theorem m_forget (h : MW σ V) : wp (f_X3_forget (some 37) σ) (GoM σ (fgR V).1 (fgR V).2) := by
  have h0 := h
  have h1 := h.thr (v := 0)
  obtain ⟨x, s, t, u, f, r, ch⟩ := h1
  obtain ⟨f1, f2, b, f3, f4, f5⟩ := f
  unfold f_X3_forget
  rw [wp_pI]
  refine ⟨so_37 h0.1.s, rfl, ?_⟩
  rw [wp_gI, f1]
  refine ⟨so_37 x.s, ?_⟩
  rw [wp_pI]
  refine ⟨so_37 x.s, rfl, ?_⟩
  rw [wp_some]
  have g : Fr [] [] [45] (wI σ 37 11 0) (wI (wI σ 37 11 0) 37 45 0) := Fr.refl.putI rfl
  have fs := g.frs x.s rfl
  exact ⟨rfl, ⟨x.frs fs rfl, s.frs fs rfl, t.frs fs rfl, u.frs fs rfl, ⟨hi_eq, fun k hk' => absurd hk' (Nat.not_lt_zero _), b, f3, by rw [hi_ni (by decide)]; exact f4, fun k hk' => absurd hk' (Nat.not_lt_zero _)⟩, r.frs fs rfl, (fs.i (by decide) rfl).trans ch⟩, [], [11, 45], (Fr.refl.putI rfl).putI rfl, rfl⟩
theorem pk_set {P : Pk} (h : POK P) {w v : Nat} (h0 : w = 0 → 1 ≤ v ∧ v ≤ 8) (h1 : w ≠ 0 → v ≤ 9) : POK (setP P w v) := by
  obtain ⟨p1, p2, p3, p4⟩ := h
  unfold setP
  refine ⟨p1, ?_, ?_, p4⟩
  · show 1 ≤ (if w = 0 then v else P.hrs) ∧ (if w = 0 then v else P.hrs) ≤ 8
    by_cases e : w = 0
    · rw [if_pos e]; exact h0 e
    · rw [if_neg e]; exact p2
  · show (if w = 0 then P.beats else v) ≤ 9
    by_cases e : w = 0
    · rw [if_pos e]; exact p3
    · rw [if_neg e]; exact h1 e
theorem c_set (h : CV σ V) {w v : Int32} : wp (f_X1_set (some 0) w v σ) (GoC σ 0 (seR V w v).1 (seR V w v).2) := by
  have h0 := h
  obtain ⟨x, s, t, u, f, r, ch⟩ := h
  unfold f_X1_set seR
  rw [w_in_0_1, b2_ite]
  by_cases c0 : 0 ≤ w ∧ w ≤ 1
  · rw [if_pos c0, y_jn]
    rcases i1_of c0 with rfl | rfl
    · rw [if_pos rfl, show (8 : Int64) = Int32.toInt64 8 from rfl, w_in, b2_ite, show (1 : Int32) - 0 = 1 by decide]
      by_cases c1 : 1 ≤ v ∧ v ≤ 8
      · rw [if_pos c1, if_pos ⟨rfl, c1⟩, y_jn, if_pos rfl, wp_gI, x.h]
        refine ⟨so_0 x.s, ?_⟩
        rw [y_jn, if_pos rfl, wp_pI]
        refine ⟨so_0 x.s, rfl, ?_⟩
        rw [wp_some]
        obtain ⟨k, hk', rfl⟩ := lo_pos (Int32.le_trans (by decide) c1.1)
        have k1 : 1 ≤ k := by have := c1.1; rw [l_1le (by omega)] at this; exact this
        have k8 := nI_b1 (m := 8) hk' (by decide) c1.2
        have g : Fr [] [6] [] σ (wI σ 0 6 (nI k)) := Fr.refl.putI rfl
        have fs := g.frs x.s rfl
        rw [ix_nI hk']
        have cp : CP (wI σ 0 6 (nI k)) (setP V.P 0 k) := ⟨(fs.i (by decide) rfl).trans x.2.1.1, hi_eq, (fs.i (by decide) rfl).trans x.2.1.2.2.1, x.2.1.2.2.2.1, x.2.1.2.2.2.2.nk fs.2.2.1 rfl⟩
        exact ⟨rfl, ⟨⟨fs.sh x.s rfl, cp, pk_set x.pk (fun _ => ⟨k1, k8⟩) (fun z => absurd rfl z), x.2.2.2.1.frs x.s fs (by decide) ⟨by decide, by decide⟩ rfl rfl rfl, x.ok⟩, s.frs fs rfl, t.frs fs rfl, u.frs fs (g.frd rfl) rfl, f.frs fs rfl, r.frs fs rfl, (fs.i (by decide) rfl).trans ch⟩, [], [6], fs, rfl⟩
      · rw [if_neg c1, if_neg (fun z => c1 z.2), if_neg (fun z => absurd z.1 (by decide)), wp_some]
        exact GoC.same h0
    · rw [if_neg (by decide), show (9 : Int64) = Int32.toInt64 9 from rfl, w_in, b2_ite, show (1 : Int32) - 1 = 0 by decide]
      by_cases c1 : 0 ≤ v ∧ v ≤ 9
      · rw [if_pos c1, if_neg (fun z => absurd z.1 (by decide)), if_pos ⟨rfl, c1⟩, y_jn, if_neg (by decide), wp_gI, x.b]
        refine ⟨so_0 x.s, ?_⟩
        rw [y_jn, if_neg (by decide), wp_pI]
        refine ⟨so_0 x.s, rfl, ?_⟩
        rw [wp_some]
        obtain ⟨k, hk', rfl⟩ := lo_pos c1.1
        have k9 := nI_b1 (m := 9) hk' (by decide) c1.2
        have g : Fr [] [7] [] σ (wI σ 0 7 (nI k)) := Fr.refl.putI rfl
        have fs := g.frs x.s rfl
        rw [ix_nI hk']
        have cp : CP (wI σ 0 7 (nI k)) (setP V.P 1 k) := ⟨(fs.i (by decide) rfl).trans x.2.1.1, (fs.i (by decide) rfl).trans x.2.1.2.1, hi_eq, x.2.1.2.2.2.1, x.2.1.2.2.2.2.nk fs.2.2.1 rfl⟩
        exact ⟨rfl, ⟨⟨fs.sh x.s rfl, cp, pk_set x.pk (fun z => absurd z (by decide)) (fun _ => k9), x.2.2.2.1.frs x.s fs (by decide) ⟨by decide, by decide⟩ rfl rfl rfl, x.ok⟩, s.frs fs rfl, t.frs fs rfl, u.frs fs (g.frd rfl) rfl, f.frs fs rfl, r.frs fs rfl, (fs.i (by decide) rfl).trans ch⟩, [], [7], fs, rfl⟩
      · rw [if_neg c1, if_neg (fun z => absurd z.1 (by decide)), if_neg (fun z => c1 z.2), wp_some]
        exact GoC.same h0
  · rw [if_neg c0, if_neg (fun z => c0 (by rw [z.1]; decide)), if_neg (fun z => c0 (by rw [z.1]; decide)), wp_some]
    exact GoC.same h0
theorem m_set (h : MW σ V) {w v : Int32} : wp (f_X3_set (some 37) w v σ) (GoM σ (seR V w v).1 (seR V w v).2) := by
  have h0 := h
  have h1 := h.thr (v := 0)
  obtain ⟨x, s, t, u, f, r, ch⟩ := h1
  unfold f_X3_set seR
  rw [wp_pI]
  refine ⟨so_37 h0.1.s, rfl, ?_⟩
  rw [y_jn]
  by_cases w0 : w = 0
  · subst w0
    rw [if_pos rfl, w_in3, b2_ite]
    by_cases c1 : 1 ≤ v ∧ v ≤ 8
    · rw [if_pos c1, if_pos ⟨rfl, c1⟩, y_jn, if_pos rfl, wp_gI, x.h]
      refine ⟨so_37 x.s, ?_⟩
      rw [y_jn, if_pos rfl, wp_pI]
      refine ⟨so_37 x.s, rfl, ?_⟩
      rw [wp_some]
      obtain ⟨k, hk', rfl⟩ := lo_pos (Int32.le_trans (by decide) c1.1)
      have k1 : 1 ≤ k := by have := c1.1; rw [l_1le (by omega)] at this; exact this
      have k8 := nI_b1 (m := 8) hk' (by decide) c1.2
      have g : Fr [] [] [1] (wI σ 37 11 0) (wI (wI σ 37 11 0) 37 1 (nI k)) := Fr.refl.putI rfl
      have fs := g.frs x.s rfl
      rw [ix_nI hk']
      have cp : MP (wI (wI σ 37 11 0) 37 1 (nI k)) (setP V.P 0 k) := ⟨(fs.i (by decide) rfl).trans x.2.1.1, hi_eq, (fs.i (by decide) rfl).trans x.2.1.2.2.1, x.2.1.2.2.2.1, x.2.1.2.2.2.2.frs fs rfl⟩
      exact ⟨rfl, ⟨⟨fs.sh x.s rfl, cp, pk_set x.pk (fun _ => ⟨k1, k8⟩) (fun z => absurd rfl z), x.2.2.2.1.frs fs (by decide) (by decide) (by decide) rfl, x.ok⟩, s.frs fs rfl, t.frs fs rfl, u.frs fs rfl, f.frs fs rfl, r.frs fs rfl, (fs.i (by decide) rfl).trans ch⟩, [], [1, 11], (Fr.refl.putI rfl).putI rfl, rfl⟩
    · rw [if_neg c1, if_neg (fun z => c1 z.2), if_neg (fun z => absurd z.1 (by decide)), wp_some]
      exact GoM.thr h0
  · have n0 : ¬ (w = 0 ∧ 1 ≤ v ∧ v ≤ 8) := fun z => w0 z.1
    rw [if_neg w0, if_neg n0]
    by_cases w1 : w = 1
    · subst w1
      rw [if_pos rfl, w_in3, b2_ite]
      by_cases c1 : 0 ≤ v ∧ v ≤ 9
      · rw [if_pos c1, if_pos ⟨rfl, c1⟩, y_jn, if_neg (by decide), wp_gI, x.b]
        refine ⟨so_37 x.s, ?_⟩
        rw [y_jn, if_neg (by decide), wp_pI]
        refine ⟨so_37 x.s, rfl, ?_⟩
        rw [wp_some]
        obtain ⟨k, hk', rfl⟩ := lo_pos c1.1
        have k9 := nI_b1 (m := 9) hk' (by decide) c1.2
        have g : Fr [] [] [2] (wI σ 37 11 0) (wI (wI σ 37 11 0) 37 2 (nI k)) := Fr.refl.putI rfl
        have fs := g.frs x.s rfl
        rw [ix_nI hk']
        have cp : MP (wI (wI σ 37 11 0) 37 2 (nI k)) (setP V.P 1 k) := ⟨(fs.i (by decide) rfl).trans x.2.1.1, (fs.i (by decide) rfl).trans x.2.1.2.1, hi_eq, x.2.1.2.2.2.1, x.2.1.2.2.2.2.frs fs rfl⟩
        exact ⟨rfl, ⟨⟨fs.sh x.s rfl, cp, pk_set x.pk (fun z => absurd z (by decide)) (fun _ => k9), x.2.2.2.1.frs fs (by decide) (by decide) (by decide) rfl, x.ok⟩, s.frs fs rfl, t.frs fs rfl, u.frs fs rfl, f.frs fs rfl, r.frs fs rfl, (fs.i (by decide) rfl).trans ch⟩, [], [2, 11], (Fr.refl.putI rfl).putI rfl, rfl⟩
      · rw [if_neg c1, if_neg (fun z => c1 z.2), wp_some]
        exact GoM.thr h0
    · have n1 : ¬ (w = 1 ∧ 0 ≤ v ∧ v ≤ 9) := fun z => w1 z.1
      rw [if_neg w1, if_neg n1, wp_some]
      exact GoM.thr h0
theorem c_found (h : CV σ V) (hk : VOK V) {a b c : Int32} : wp (f_X1_found (some 0) a b c σ) (GoC σ 0 (foR V a b c).1 (foR V a b c).2) := by
  have h0 := h
  obtain ⟨x, s, t, u, f, r, ch⟩ := h
  have n8 := x.n8
  have m12 := hk.2.2.2.1
  unfold f_X1_found foR
  rw [w_in_0_7, b2_ite]
  by_cases c1 : 0 ≤ a ∧ a ≤ 7
  · rw [if_pos c1, wp_ob]
    refine ⟨so_0 x.s, ?_⟩
    rw [w_isRider x.s, x.n, b2_ite]
    by_cases c2 : isR (nI V.P.n) b
    · rw [if_pos c2, w_in_0_1, b2_ite]
      by_cases c3 : 0 ≤ c ∧ c ≤ 1
      · rw [if_pos c3, wp_gI, f.1]
        refine ⟨so_0 x.s, ?_⟩
        by_cases c4 : V.F.m = 12
        · rw [if_pos (by rw [c4]; rfl), if_neg (fun z => z.2.2.2 c4), wp_some]
          exact GoC.same h0
        · rw [if_neg (by rw [n_12, nI_eq_l (by omega) (by decide)]; exact c4), if_pos ⟨c1, c2, c3, c4⟩]
          obtain ⟨k, hk', rfl⟩ := lo_pos c1.1
          have k7 := nI_b1 (m := 7) hk' (by decide) c1.2
          obtain ⟨q, hq, rfl⟩ := (isR_iff (by omega)).mp c2
          have f44 := f.1
          rw [ix_nI hk', ix_nI (by omega)]
          generalize hQ : GoC σ 0 (nI (V.F.m + 1), sF V (fdP V.F k q (decide (c = 1)))).1 (nI (V.F.m + 1), sF V (fdP V.F k q (decide (c = 1)))).2 = Q
          skip
          simp (disch := first | omega | exact x.s | exact hi_eq | ((repeat (first | exact x.s | apply sw_I | apply sw_L | apply sw_cp | apply sw_18 | apply sw_21 | apply sw_22 | apply sw_m12 | apply sw_m18)); done) | rfl) only [wp_ite, wp_some, y_jn, wp_r0, wp_r1, wp_b2, y_nn, w_bc, w_nt, wo_0, wg_0, wi_0, wr_0_45, wr_0_46, wr_0_47, wl_31, ws_31, wl_32, ws_32, wl_33, ws_33, w_has, w_isRider, w_isPair, w_isHour, w_in, w_in0, w_in_0_1, w_in_0_10, w_in_0_3, w_in_0_30, w_in_0_60, w_in_0_7, w_in_0_9, w_in_0_999, w_in_1_60, w_in_20_27, w_in_2_40, w_in_48_57, w_whole, w_all, wt_0, wt_1, wt_2, nI_add, nI_1, nI_mul, nI_and, nI_or, nI_sd, nI_sub, l_sub1, l_addm1, l_all, l_1shl, l_or0, l_add0, l_0add, l_m1, l_m1r, l_neg, l_nn, l_eq0, l_le0, l_0lt, l_eq1, l_m1lt, l_m1le, l_m1eq0, l_10, l_00, l_1le, nI_le_l, nI_lt_l, nI_eq_l, bc_nI, nt_nI, bit_nI, b2_ite, b2_ite1, nI_max, nI_min, isR_nI, n_12, n_7, hi_ne, hi_ni, hi_eq, y_iL, y_iR, y_lI, y_lR, hl_ne, hl_ni, hl_eq, y_rI, y_rL, if_true, if_false, if_pos, if_neg, true_and, and_true, not_true_eq_false, not_false_eq_true, x.n, x.h, x.b, x.mo, x.wi, x.ca, x.ro, x.ti, x.il, x.ni, x.ga, x.ri, f44]
          have g : Fr [31, 32, 33] [44] [] σ (wI (wI (wI (wI σ 31 V.F.m (nI k)) 32 V.F.m (nI q)) 33 V.F.m c) 0 44 (nI (V.F.m + 1))) := (((Fr.refl.putI rfl).putI rfl).putI rfl).putI rfl
          have fs := g.frs x.s rfl
          rw [← hQ]
          refine ⟨rfl, ⟨x.frs fs rfl, s.frs fs rfl, t.frs fs rfl, u.frs fs (g.frd rfl) rfl, ⟨hi_eq, fun j hj => ?_⟩, r.frs fs rfl, (fs.i (by decide) rfl).trans ch⟩, _, _, fs, rfl⟩
          have hj' : j < V.F.m + 1 := hj
          rw [hi_ne (show 31 ≠ 0 by decide), hi_ne (show 31 ≠ 33 by decide), hi_ne (show 31 ≠ 32 by decide), hi_ne (show 32 ≠ 0 by decide), hi_ne (show 32 ≠ 33 by decide), hi_ne (show 33 ≠ 0 by decide)]
          show _ = nI (up1 V.F.h V.F.m k j) ∧ _ = nI (up1 V.F.r V.F.m q j) ∧ _ = if up1 V.F.b V.F.m (decide (c = 1)) j = true then 1 else 0
          by_cases e : j = V.F.m
          · subst e
            rw [hi_eq, hi_eq, hi_eq, up1_eq, up1_eq, up1_eq]
            refine ⟨rfl, rfl, ?_⟩
            rcases i1_of c3 with rfl | rfl
            · rfl
            · rfl
          · rw [hi_ni e, hi_ni e, hi_ni e, up1_ne e, up1_ne e, up1_ne e, hi_ne (show 32 ≠ 31 by decide), hi_ne (show 33 ≠ 32 by decide), hi_ne (show 33 ≠ 31 by decide)]
            exact f.2 j (by omega)
      · rw [if_neg c3, if_neg (fun z => c3 z.2.2.1), wp_some]
        exact GoC.same h0
    · rw [if_neg c2, if_neg (fun z => c2 z.2.1), wp_some]
      exact GoC.same h0
  · rw [if_neg c1, if_neg (fun z => c1 z.1), wp_some]
    exact GoC.same h0
theorem bits_put {b m : Nat} {B : Nat → Bool} (hb : ∀ k, k < m → b.testBit k = B k) (v : Bool) : ∀ k, k < m + 1 → ((sd b (2 ^ m)) ||| (if v then 2 ^ m else 0)).testBit k = up1 B m v k := fun k hk' => by
  rw [Nat.testBit_or, sd_bit, bit_pow]
  unfold up1
  by_cases e : k = m
  · rw [if_pos e, e, decide_eq_true rfl]
    cases v
    · simp
    · simp [bit_pow]
  · rw [if_neg e, decide_eq_false (fun z => e z.symm), hb k (by omega)]
    cases v
    · simp
    · have : (2 ^ m).testBit k = false := by rw [bit_pow]; exact decide_eq_false (fun z => e z.symm)
      simp [this]
theorem m_found (h : MW σ V) (hk : VOK V) {a b c : Int32} : wp (f_X3_found (some 37) a b c σ) (GoM σ (foR V a b c).1 (foR V a b c).2) := by
  have h0 := h
  have h1 := h.thr (v := 0)
  obtain ⟨x, s, t, u, f, r, ch⟩ := h1
  have n8 := x.n8
  have m12 := hk.2.2.2.1
  obtain ⟨f1, f2, bb, f3, f4, f5⟩ := f
  unfold f_X3_found foR
  rw [wp_pI]
  refine ⟨so_37 h0.1.s, rfl, ?_⟩
  rw [w_isHour3, b2_ite]
  by_cases c1 : 0 ≤ a ∧ a ≤ 7
  · rw [if_pos c1, wp_ob]
    refine ⟨so_37 x.s, ?_⟩
    rw [w_isMan x.s, x.n, b2_ite]
    by_cases c2 : isR (nI V.P.n) b
    · rw [if_pos c2, w_in3, b2_ite]
      by_cases c3 : 0 ≤ c ∧ c ≤ 1
      · rw [if_pos c3, wp_gI, f1]
        refine ⟨so_37 x.s, ?_⟩
        by_cases c4 : V.F.m = 12
        · rw [if_pos (by rw [c4]; rfl), if_neg (fun z => z.2.2.2 c4), wp_some]
          exact GoM.thr h0
        · rw [if_neg (by rw [n_12, nI_eq_l (by omega) (by decide)]; exact c4), if_pos ⟨c1, c2, c3, c4⟩]
          obtain ⟨k, hk', rfl⟩ := lo_pos c1.1
          have k7 := nI_b1 (m := 7) hk' (by decide) c1.2
          obtain ⟨q, hq, rfl⟩ := (isR_iff (by omega)).mp c2
          rw [ix_nI hk', ix_nI (by omega)]
          have e1 : (nI bb &&& (shl 1 (nI V.F.m) ^^^ (-1))) ||| shl c (nI V.F.m) = nI (sd bb (2 ^ V.F.m) ||| (if decide (c = 1) = true then 2 ^ V.F.m else 0)) := by
            rw [shl_1 (by omega), nI_sd]
            rcases i1_of c3 with rfl | rfl
            · rw [shl_0 (by omega), l_or0, if_neg (by decide), Nat.or_zero]
            · rw [shl_1 (by omega), nI_or, if_pos (by decide)]
          have hb2 : (sd bb (2 ^ V.F.m) ||| (if decide (c = 1) = true then 2 ^ V.F.m else 0)) < 4096 := by
            have h12 : 2 ^ V.F.m < 2 ^ 12 := Nat.pow_lt_pow_right (by decide) (by omega)
            refine Nat.or_lt_two_pow (n := 12) ?_ ?_
            · exact Nat.lt_of_le_of_lt (sbs_le (sbs_sd _ _)) f3
            · split
              · exact h12
              · decide
          have hbp := bits_put f5 (decide (c = 1))
          generalize (sd bb (2 ^ V.F.m) ||| (if decide (c = 1) = true then 2 ^ V.F.m else 0)) = b2 at *
          generalize hQ : GoM σ (nI (V.F.m + 1), sF V (fdP V.F k q (decide (c = 1)))).1 (nI (V.F.m + 1), sF V (fdP V.F k q (decide (c = 1)))).2 = Q
          simp only [wp_gR, wp_gI, wp_sI, wp_pI, okv0, Ok_wI, hk_wI, hr_wI, sp_37_42 x.s, sp_37_43 x.s, so_37 x.s, so_63 x.s, so_64 x.s, hi_ne (show 37 ≠ 63 by decide), hi_ne (show 37 ≠ 64 by decide), sl_63 h0.1.s, sl_64 h0.1.s, so_63 h0.1.s, so_64 h0.1.s, so_37 h0.1.s, f1, true_and]
          rw [ix_nI (by omega), inb_nI (by omega)]
          refine ⟨by omega, by omega, ?_⟩
          simp only [hi_ne (show 37 ≠ 63 by decide), hi_ne (show 37 ≠ 64 by decide), hi_ni (show 45 ≠ 44 by decide), f1, f4, hi_eq, wp_some, e1, nI_1]
          rw [← hQ]
          have g : Fr [63, 64] [] [44, 45] (wI σ 37 11 0) (wI (wI (wI (wI (wI σ 37 11 0) 63 V.F.m (nI k)) 64 V.F.m (nI q)) 37 44 (nI b2)) 37 45 (nI (V.F.m + 1))) := (((Fr.refl.putI rfl).putI rfl).putI rfl).putI rfl
          have fs := g.frs x.s rfl
          have g2 : Fr [63, 64] [] [11, 44, 45] σ (wI (wI (wI (wI (wI σ 37 11 0) 63 V.F.m (nI k)) 64 V.F.m (nI q)) 37 44 (nI b2)) 37 45 (nI (V.F.m + 1))) := ((((Fr.refl.putI rfl).putI rfl).putI rfl).putI rfl).putI rfl
          refine ⟨rfl, ⟨x.frs fs rfl, s.frs fs rfl, t.frs fs rfl, u.frs fs rfl, ⟨hi_eq, fun j hj => ?_, b2, hb2, by rw [hi_ni (by decide), hi_eq], hbp⟩, r.frs fs rfl, (fs.i (by decide) rfl).trans ch⟩, [63, 64], [11, 44, 45], g2, rfl⟩
          have hj' : j < V.F.m + 1 := hj
          rw [hi_ne (show 63 ≠ 37 by decide), hi_ne (show 63 ≠ 37 by decide), hi_ne (show 63 ≠ 64 by decide), hi_ne (show 64 ≠ 37 by decide), hi_ne (show 64 ≠ 37 by decide)]
          show _ = nI (up1 V.F.h V.F.m k j) ∧ _ = nI (up1 V.F.r V.F.m q j)
          by_cases e : j = V.F.m
          · subst e
            rw [hi_eq, hi_eq, up1_eq, up1_eq]
            exact ⟨rfl, rfl⟩
          · rw [hi_ni e, hi_ni e, up1_ne e, up1_ne e, hi_ne (show 64 ≠ 63 by decide)]
            exact f2 j (by omega)
      · rw [if_neg c3, if_neg (fun z => c3 z.2.2.1), wp_some]
        exact GoM.thr h0
    · rw [if_neg c2, if_neg (fun z => c2 z.2.1), wp_some]
      exact GoM.thr h0
  · rw [if_neg c1, if_neg (fun z => c1 z.1), wp_some]
    exact GoM.thr h0
end simple
