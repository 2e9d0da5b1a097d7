/-! PURE 89: kept, taken again -/
section keep
variable {σ τ υ : Hp} {V : VS} {U : US} {K : KS} {a b : HS} {s t k : Nat} {P : Pk}
theorem c_keep (h : CV σ V) {v : Int32} : wp (f_X1_keep (some 0) v σ) (GoC σ 3 (keR V v).1 (keR V v).2) := by
  have h0 := h
  obtain ⟨x, s, t, u, f, r, ch⟩ := h
  obtain ⟨⟨u1, u12⟩, ⟨sl1, sl2⟩, u3, u4⟩ := u
  have hs := x.s
  have h69 := hs.1
  unfold f_X1_keep keR
  rw [w_in_0_1, b2_ite]
  by_cases c : 0 ≤ v ∧ v ≤ 1
  · rw [if_pos c, if_pos c]
    obtain ⟨k, k2, rfl⟩ : ∃ k : Nat, k < 2 ∧ v = nI k := by
      rcases i1_of c with rfl | rfl
      · exact ⟨0, by decide, rfl⟩
      · exact ⟨1, by decide, rfl⟩
    rw [ix_nI (by omega)]
    generalize hQ : GoC σ 3 (1, sK V (up1 V.K k (some (V.a, V.ch)))).1 (1, sK V (up1 V.K k (some (V.a, V.ch)))).2 = Q
    rw [wp_gR, sp_0_49 hs]
    refine ⟨so_0 hs, ?_⟩
    rw [wp_lR, ix_nI (by omega), sl_34 hs, inb_nI (by omega)]
    refine ⟨⟨so_34 hs, k2⟩, ?_⟩
    rw [y_jn]
    have fin : ∀ (ω : Hp) (z : Nat), FrS [] [] [] 3 σ ω → CX ω V.P V.a → SL ω → (∀ k, k < V.U.1 → ∃ s, hr ω 14 k = some s ∧ CH ω s (V.U.2 k)) → (∀ i, i < 2 → i ≠ k → KC ω i (V.K i)) → hr ω 34 k = some z → wp (gR 0 49 ω (some 0) fun y6 => lR ω y6 (nI k) fun y7 => gR 0 0 ω (some 0) fun y8 => ob 1 ω y7 fun _ => bnd (f_X2_becomes y7 y8 ω) fun _ σ => gR 0 50 σ (some 0) fun y9 => gI 0 8 σ (some 0) fun x10 => sI σ y9 (nI k) x10 fun σ => rz1 1 σ) Q := by
      intro ω z f0 xω slω uω kω r34
      have hω := xω.s
      obtain ⟨o1, o2⟩ := slω
      have slk : slt ω (k + 12) = some z := by unfold slt; rw [if_neg (by omega), Nat.add_sub_cancel]; exact r34
      obtain ⟨z69, hoz⟩ := o1 (k + 12) (by omega) z slk
      rw [wp_gR, sp_0_49 hω]
      refine ⟨so_0 hω, ?_⟩
      rw [wp_lR, ix_nI (by omega), sl_34 hω, inb_nI (by omega), r34]
      refine ⟨⟨so_34 hω, k2⟩, ?_⟩
      rw [wp_gR, sp_0_0 hω]
      refine ⟨so_0 hω, ?_⟩
      rw [wp_ob]
      refine ⟨hoz.1, ?_⟩
      rw [wp_bnd]
      refine wp_mono (c_becomes hoz xω.2.2.2.1 (Or.inl (by omega))) (fun _ τ h => ?_)
      obtain ⟨hb, hc⟩ := h
      have fb := hb.frs hω z69 hoz
      have hτ := fb.sh hω rfl
      have r4 : hr τ = hr ω := hb.2.2.2.1
      have f01 : FrS [] [] [] 3 σ τ := (f0.trans fb).mono rfl (Nat.le_refl _)
      have e8 : hi τ 0 8 = V.ch := (f01.i (by decide) rfl).trans ch
      rw [wp_gR, sp_0_50 hτ]
      refine ⟨so_0 hτ, ?_⟩
      rw [wp_gI, e8]
      refine ⟨so_0 hτ, ?_⟩
      rw [wp_sI, ix_nI (by omega), sl_35 hτ, inb_nI (by omega)]
      refine ⟨⟨so_35 hτ, k2⟩, ?_⟩
      rw [wp_r1, ← hQ]
      have g1 : Fr [35] [] [] τ (wI τ 35 k V.ch) := Fr.refl.putI rfl
      have fs : FrS [35] [] [] 3 σ (wI τ 35 k V.ch) := ((f01.mono rfl (Nat.le_refl _)).trans (g1.frs hτ rfl)).mono rfl (Nat.le_refl _)
      have chw : ∀ {q : Nat} {b : HS}, CH τ q b → 69 ≤ q → CH (wI τ 35 k V.ch) q b := fun h z1 => h.ne (by omega) (by omega) (by omega)
      have slτ : ∀ i, slt (wI τ 35 k V.ch) i = slt ω i := fun i => by unfold slt; show (if i < 12 then hr τ 14 i else hr τ 34 (i - 12)) = _; rw [r4]
      refine ⟨rfl, ⟨x.frs fs rfl, s.frs fs rfl, t.frs fs rfl, ⟨⟨(fs.i (by decide) rfl).trans u1, u12⟩, ⟨fun i hi' q hq => ?_, fun i j q hi' hj e1 e3 => ?_⟩, fun j hj => ?_, fun i hi' => ?_⟩, f.frs fs rfl, r.frs fs rfl, (fs.i (by decide) rfl).trans ch⟩, _, _, fs, rfl⟩
      · rw [slτ] at hq
        obtain ⟨a1, a2⟩ := o1 i hi' q hq
        exact ⟨a1, hb.ho a2⟩
      · rw [slτ] at e1 e3; exact o2 i j q hi' hj e1 e3
      · have hj2 : j < V.U.1 := hj
        obtain ⟨q, a1, a2⟩ := uω j hj2
        have hq : slt ω j = some q := by unfold slt; rw [if_pos (by omega)]; exact a1
        have q69 := (o1 j (by omega) q hq).1
        refine ⟨q, by show hr τ 14 j = _; rw [r4]; exact a1, chw (hb.ch a2 hoz (fun e => ?_)) q69⟩
        subst e
        have := o2 j (k + 12) q (by omega) (by omega) hq slk
        omega
      · show KC _ i (up1 V.K k (some (V.a, V.ch)) i)
        by_cases e : i = k
        · subst e
          rw [up1_eq]
          exact ⟨⟨z, by show hr τ 34 i = _; rw [r4]; exact r34, chw hc z69⟩, hi_eq⟩
        · rw [up1_ne e]
          have := kω i hi' e
          unfold KC at this ⊢
          cases hK : V.K i with
          | none => rw [hK] at this; dsimp only at this ⊢; show hr τ 34 i = _; rw [r4]; exact this
          | some b =>
            rw [hK] at this
            dsimp only at this ⊢
            obtain ⟨⟨q, a1, a2⟩, a3⟩ := this
            have hq : slt ω (i + 12) = some q := by unfold slt; rw [if_neg (by omega), Nat.add_sub_cancel]; exact a1
            have q69 := (o1 (i + 12) (by omega) q hq).1
            refine ⟨⟨q, by show hr τ 34 i = _; rw [r4]; exact a1, chw (hb.ch a2 hoz (fun e2 => ?_)) q69⟩, by rw [hi_ni e, fb.i (by decide) rfl]; exact a3⟩
            subst e2
            have := o2 (i + 12) (k + 12) q (by omega) (by omega) hq slk
            omega
    cases h34 : hr σ 34 k with
    | some z =>
      unfold nul
      dsimp only
      exact fin σ z (((Fr.refl (D := []) (F := []) (G := [])).frs hs rfl).mono rfl (Nat.zero_le _)) x ⟨sl1, sl2⟩ u3 (fun i hi' _ => u4 i hi') h34
    | none =>
      unfold nul nO
      dsimp only
      rw [wp_gR, sp_0_49 hs]
      refine ⟨so_0 hs, ?_⟩
      rw [wp_nn, wp_bnd]
      refine wp_mono c_newHorse (fun _ τ hN => ?_)
      have fN := hN.frs hs
      have dN := hN.frd hs
      have hτ := fN.sh hs rfl
      rw [wp_sR (fun b hb => by cases hb; exact hN.2.2.1), ix_nI (by omega), sl_34 hτ, inb_nI (by omega)]
      refine ⟨⟨so_34 hτ, k2⟩, ?_⟩
      have fR : FrS [] [] [] 0 τ (wR τ 34 k (some (hn σ))) := ⟨⟨Nat.le_refl _, Nat.le_refl _⟩, ⟨Nat.le_refl _, Nat.le_refl _⟩, ⟨Nat.le_refl _, fun b _ => ⟨rfl, fun k3 k6 => ⟨rfl, hr_ne (fun z => by subst z; rw [hτ.2.1 34 (by decide)] at k6; exact absurd k6 (by decide))⟩⟩⟩, fun a _ i => ⟨fun _ => ⟨rfl, rfl⟩, fun _ _ z => by rw [hr_ne z]⟩⟩
      have fNR := fN.trans fR
      have e14 : hr (wR τ 34 k (some (hn σ))) 14 = hr σ 14 := (hr_ne (by decide)).trans dN.1.1
      have e34 : ∀ i, i ≠ k → hr (wR τ 34 k (some (hn σ))) 34 i = hr σ 34 i := fun i hi' => (hr_ni hi').trans (by rw [dN.1.2])
      have hoN : ∀ {q : Nat}, HO σ q → 69 ≤ q → HO (wR τ 34 k (some (hn σ))) q := fun h z => by
        have := h.frd dN fN.1.1 z
        obtain ⟨q1, q2, q3, q4⟩ := this
        exact ⟨q1, by rw [hr_ne (by omega)]; exact q2, by rw [hr_ne (by omega)]; exact q3, q4⟩
      have chN : ∀ {q : Nat} {b : HS}, CH σ q b → 69 ≤ q → CH (wR τ 34 k (some (hn σ))) q b := fun h z => ⟨hoN h.1 z, (h.frd dN fN.1.1 z).2⟩
      have hoNew : HO (wR τ 34 k (some (hn σ))) (hn σ) := by
        obtain ⟨q1, q2, q3, q4⟩ := hN.2.2
        exact ⟨q1, by rw [hr_ne (by omega)]; exact q2, by rw [hr_ne (by omega)]; exact q3, q4⟩
      have old : ∀ i, i < 14 → i ≠ k + 12 → slt (wR τ 34 k (some (hn σ))) i = slt σ i := fun i _ hne => by
        unfold slt
        by_cases c : i < 12
        · rw [if_pos c, if_pos c, e14]
        · rw [if_neg c, if_neg c, e34 (i - 12) (by omega)]
      have new : slt (wR τ 34 k (some (hn σ))) (k + 12) = some (hn σ) := by unfold slt; rw [if_neg (by omega), Nat.add_sub_cancel, hr_eq]
      refine fin _ (hn σ) (fNR.mono rfl (by decide)) (x.frs (fNR.mono (D' := []) (F' := []) (G' := []) rfl (Nat.le_refl _)) rfl) ⟨fun i hi' q hq => ?_, fun i j q hi' hj e1 e3 => ?_⟩ (fun j hj => ?_) (fun i hi' hne => ?_) hr_eq
      · by_cases c : i = k + 12
        · rw [c, new] at hq; cases hq; exact ⟨h69, hoNew⟩
        · rw [old i hi' c] at hq
          obtain ⟨a1, a2⟩ := sl1 i hi' q hq
          exact ⟨a1, hoN a2 a1⟩
      · have lt : ∀ i, i < 14 → i ≠ k + 12 → slt (wR τ 34 k (some (hn σ))) i = some q → q < hn σ := fun i hi' c hq => by
          rw [old i hi' c] at hq
          exact (sl1 i hi' q hq).2.1.1
        by_cases c1 : i = k + 12
        · by_cases c2 : j = k + 12
          · omega
          · have := lt j hj c2 e3
            rw [c1, new] at e1; cases e1; omega
        · by_cases c2 : j = k + 12
          · have := lt i hi' c1 e1
            rw [c2, new] at e3; cases e3; omega
          · rw [old i hi' c1] at e1
            rw [old j hj c2] at e3
            exact sl2 i j q hi' hj e1 e3
      · obtain ⟨q, a1, a2⟩ := u3 j hj
        have hq : slt σ j = some q := by unfold slt; rw [if_pos (by omega)]; exact a1
        exact ⟨q, by rw [e14]; exact a1, chN a2 (sl1 j (by omega) q hq).1⟩
      · have := u4 i hi'
        unfold KC at this ⊢
        cases hK : V.K i with
        | none => rw [hK] at this; dsimp only at this ⊢; rw [e34 i hne]; exact this
        | some b =>
          rw [hK] at this
          dsimp only at this ⊢
          obtain ⟨⟨q, a1, a2⟩, a3⟩ := this
          have hq : slt σ (i + 12) = some q := by unfold slt; rw [if_neg (by omega), Nat.add_sub_cancel]; exact a1
          exact ⟨⟨q, by rw [e34 i hne]; exact a1, chN a2 (sl1 (i + 12) (by omega) q hq).1⟩, by show hi τ 35 i = _; rw [fN.i (by decide) rfl]; exact a3⟩
  · rw [if_neg c, if_neg c, wp_r0]
    exact GoC.same h0
theorem m_keep (h : MW σ V) {v : Int32} : wp (f_X3_keep (some 37) v σ) (GoM σ (keR V v).1 (keR V v).2) := by
  have h0 := h
  have h1 := h.thr (v := 0)
  obtain ⟨x, s, t, u, f, r, ch⟩ := h1
  obtain ⟨u1, u2, u3⟩ := u
  have hs := x.s
  unfold f_X3_keep keR
  rw [wp_pI]
  refine ⟨so_37 h0.1.s, rfl, ?_⟩
  rw [w_in3, b2_ite]
  by_cases c : 0 ≤ v ∧ v ≤ 1
  · rw [if_pos c, if_pos c]
    obtain ⟨k, k2, rfl⟩ : ∃ k : Nat, k < 2 ∧ v = nI k := by
      rcases i1_of c with rfl | rfl
      · exact ⟨0, by decide, rfl⟩
      · exact ⟨1, by decide, rfl⟩
    rw [ix_nI (by omega)]
    generalize hς : wI σ 37 11 0 = ς at *
    have g0 : Fr [] [] [11] σ ς := by rw [← hς]; exact Fr.refl.putI rfl
    rw [wp_gR, sp_37_49 hs]
    refine ⟨so_37 hs, ?_⟩
    rw [wp_sZ, ix_nI (by omega), sl_66 hs, inb_nI (by omega), show vp_nar .boolean 1 = (1 : Int32) from rfl]
    refine ⟨⟨so_66 hs, k2⟩, ?_⟩
    have f1 : Fr [66] [] [] ς (wI ς 66 k 1) := Fr.refl.putI rfl
    have s1 := f1.sh hs rfl
    rw [wp_gR, sp_37_50 s1]
    refine ⟨so_37 s1, ?_⟩
    rw [wp_gI, f1.i (σ := ς) (a := 37) (i := 47) rfl, ch]
    refine ⟨so_37 s1, ?_⟩
    rw [wp_sI, ix_nI (by omega), sl_67 s1, inb_nI (by omega)]
    refine ⟨⟨so_67 s1, k2⟩, ?_⟩
    have f2 : Fr [66, 67] [] [] ς (wI (wI ς 66 k 1) 67 k V.ch) := (Fr.refl.putI rfl).putI rfl
    have s2 := f2.sh hs rfl
    rw [wp_gR, sp_37_0 s2]
    refine ⟨so_37 s2, ?_⟩
    rw [wp_gR, sp_37_48 s2]
    refine ⟨so_37 s2, ?_⟩
    rw [n_27, nI_mul, wp_bnd]
    refine wp_mono (m_lay (k := 27 * k) (so_38 s2) (sl_38 s2) (so_65 s2) (by rw [sl_65 s2]; omega) (by omega) (by decide)) (fun _ τ h => ?_)
    obtain ⟨h3, h4, h5⟩ := h
    have f3 : Fr [65] [] [] (wI (wI ς 66 k 1) 67 k V.ch) τ := h3.fr rfl
    have f4 : Fr [65, 66, 67] [] [] ς τ := (f2.mono rfl).trans (f3.mono rfl)
    have fs := f4.frs hs rfl
    have e66 : ∀ i, hi τ 66 i = hi (wI ς 66 k 1) 66 i := fun i => (f3.i rfl).trans (by rw [hi_ne (show 66 ≠ 67 by decide)])
    have e67 : ∀ i, hi τ 67 i = hi (wI (wI ς 66 k 1) 67 k V.ch) 67 i := fun i => f3.i rfl
    rw [wp_r1]
    refine ⟨rfl, ⟨x.frs fs rfl, s.frs fs rfl, t.frs fs rfl, ⟨(fs.i (by decide) rfl).trans u1, fun j hj => (u2 j hj).frs fs (by decide) (by decide) (by decide) rfl, fun i hi' => ?_⟩, f.frs fs rfl, r.frs fs rfl, (fs.i (by decide) rfl).trans ch⟩, _, _, (g0.mono (D' := [65, 66, 67]) (F' := []) (G' := [11]) rfl).trans (f4.mono rfl), rfl⟩
    show KM τ i (up1 V.K k (some (V.a, V.ch)) i)
    by_cases e : i = k
    · subst e
      rw [up1_eq]
      refine ⟨by rw [e66, hi_eq], ?_, by rw [e67, hi_eq]⟩
      exact MH.shift (σ := wI (wI ς 66 i 1) 67 i V.ch) (s := 38) (k' := 0) (fun j hj => by rw [h5 j hj, Nat.zero_add]) (x.2.2.2.1.fr f2 (by decide) (by decide) rfl)
    · rw [up1_ne e]
      have := u3 i hi'
      unfold KM at this ⊢
      cases hK : V.K i with
      | none => rw [hK] at this; dsimp only at this ⊢; rw [e66, hi_ni e]; exact this
      | some b =>
        rw [hK] at this
        dsimp only at this ⊢
        refine ⟨by rw [e66, hi_ni e]; exact this.1, ?_, by rw [e67, hi_ni e, hi_ne (show 67 ≠ 66 by decide)]; exact this.2.2⟩
        refine MH.shift (σ := ς) (s := 65) (k' := 27 * i) (fun j hj => ?_) this.2.1
        have hik : 27 * i + j < 27 * k ∨ 27 * k + 27 ≤ 27 * i + j := by omega
        rw [h4 _ hik, hi_ne (show 65 ≠ 67 by decide), hi_ne (show 65 ≠ 66 by decide)]
  · rw [if_neg c, if_neg c, wp_r0]
    exact GoM.thr h0
theorem c_again (h : CV σ V) (hk : VOK V) {v : Int32} : wp (f_X1_again (some 0) v σ) (GoC σ 0 (agR V v).1 (agR V v).2) := by
  have h0 := h
  obtain ⟨x, s, t, u, f, r, ch⟩ := h
  have u0 := u
  obtain ⟨⟨u1, u12⟩, ⟨sl1, sl2⟩, u3, u4⟩ := u
  have hs := x.s
  unfold f_X1_again agR
  rw [w_in_0_1, b2_ite]
  by_cases c : 0 ≤ v ∧ v ≤ 1
  · rw [if_pos c, if_pos c]
    obtain ⟨k, k2, rfl⟩ : ∃ k : Nat, k < 2 ∧ v = nI k := by
      rcases i1_of c with rfl | rfl
      · exact ⟨0, by decide, rfl⟩
      · exact ⟨1, by decide, rfl⟩
    rw [ix_nI (by omega), wp_gR, sp_0_49 hs]
    refine ⟨so_0 hs, ?_⟩
    rw [wp_lR, ix_nI (by omega), sl_34 hs, inb_nI (by omega)]
    refine ⟨⟨so_34 hs, k2⟩, ?_⟩
    have hKC := u4 k k2
    have hok := hk.2.2.1 k
    unfold KC at hKC
    cases hK : V.K k with
    | none =>
      rw [hK] at hKC
      dsimp only at hKC ⊢
      rw [hKC]
      unfold nul
      dsimp only
      rw [wp_r0]
      exact GoC.same h0
    | some b =>
      rw [hK] at hKC
      dsimp only at hKC ⊢
      obtain ⟨⟨q, a1, a2⟩, a3⟩ := hKC
      have hq : slt σ (k + 12) = some q := by unfold slt; rw [if_neg (by omega), Nat.add_sub_cancel]; exact a1
      obtain ⟨q69, qo⟩ := sl1 (k + 12) (by omega) q hq
      rw [a1]
      unfold nul
      dsimp only
      rw [wp_gR, sp_0_50 hs]
      refine ⟨so_0 hs, ?_⟩
      rw [wp_lI, ix_nI (by omega), sl_35 hs, inb_nI (by omega), a3]
      refine ⟨⟨so_35 hs, k2⟩, ?_⟩
      rw [wp_gI, ch]
      refine ⟨so_0 hs, ?_⟩
      by_cases e : b.2 = V.ch
      · rw [if_pos e, if_pos e, wp_gR, sp_0_0 hs]
        refine ⟨so_0 hs, ?_⟩
        rw [wp_gR, sp_0_49 hs]
        refine ⟨so_0 hs, ?_⟩
        rw [wp_lR, ix_nI (by omega), sl_34 hs, inb_nI (by omega), a1]
        refine ⟨⟨so_34 hs, k2⟩, ?_⟩
        rw [wp_ob]
        refine ⟨so_1 hs, ?_⟩
        rw [wp_bnd]
        refine wp_mono (c_become1 h0 qo q69 a2 (hok b k2 hK)) (fun _ τ h => ?_)
        obtain ⟨hb, fs, fd, x2⟩ := h
        rw [wp_pI]
        refine ⟨so_0 x2.s, rfl, ?_⟩
        rw [wp_r1]
        have g1 : Fr [] [25] [] τ (wI τ 0 25 0) := Fr.refl.putI rfl
        have fs1 := g1.frs x2.s rfl
        have fs2 : FrS [1, 2, 3] [25] [] 0 σ (wI τ 0 25 0) := (fs.mono rfl (Nat.le_refl _)).trans (fs1.mono rfl (Nat.le_refl _))
        have uτ := u0.frs fs fd rfl
        obtain ⟨⟨w1, w12⟩, ⟨w2, w2'⟩, w3, w4⟩ := uτ
        refine ⟨rfl, ⟨x2.frs fs1 rfl, s.frs fs2 rfl, t.frs fs2 rfl, ⟨⟨hi_eq, Nat.zero_le _⟩, ⟨w2, w2'⟩, fun j hj => absurd hj (Nat.not_lt_zero _), fun i hi' => ?_⟩, f.frs fs2 rfl, r.frs fs2 rfl, (fs2.i (by decide) rfl).trans ch⟩, _, _, fs2, rfl⟩
        have := w4 i hi'
        show KC _ i (V.K i)
        unfold KC at this ⊢
        cases hK' : V.K i with
        | none => rw [hK'] at this; exact this
        | some b' =>
          rw [hK'] at this
          dsimp only at this ⊢
          obtain ⟨⟨q', d1, d2⟩, d3⟩ := this
          have q69' := (w2 (i + 12) (by omega) q' (by unfold slt; rw [if_neg (by omega), Nat.add_sub_cancel]; exact d1)).1
          exact ⟨⟨q', d1, d2.ne (by omega) (by omega) (by omega)⟩, by rw [hi_ne (by decide)]; exact d3⟩
      · rw [if_neg e, if_neg e, wp_r0]
        exact GoC.same h0
  · rw [if_neg c, if_neg c, wp_r0]
    exact GoC.same h0
theorem m_again (h : MW σ V) (hk : VOK V) {v : Int32} : wp (f_X3_again (some 37) v σ) (GoM σ (agR V v).1 (agR V v).2) := by
  have h0 := h
  have h1 := h.thr (v := 0)
  obtain ⟨x, s, t, u, f, r, ch⟩ := h1
  obtain ⟨u1, u2, u3⟩ := u
  have hs := x.s
  unfold f_X3_again agR
  rw [wp_pI]
  refine ⟨so_37 h0.1.s, rfl, ?_⟩
  rw [w_in3, b2_ite]
  by_cases c : 0 ≤ v ∧ v ≤ 1
  · rw [if_pos c, if_pos c]
    obtain ⟨k, k2, rfl⟩ : ∃ k : Nat, k < 2 ∧ v = nI k := by
      rcases i1_of c with rfl | rfl
      · exact ⟨0, by decide, rfl⟩
      · exact ⟨1, by decide, rfl⟩
    rw [ix_nI (by omega), wp_gR, sp_37_49 hs]
    refine ⟨so_37 hs, ?_⟩
    rw [wp_lI, ix_nI (by omega), sl_66 hs, inb_nI (by omega)]
    refine ⟨⟨so_66 hs, k2⟩, ?_⟩
    have hKM := u3 k k2
    have hok := hk.2.2.1 k
    unfold KM at hKM
    cases hK : V.K k with
    | none =>
      rw [hK] at hKM
      dsimp only at hKM ⊢
      rw [if_pos hKM, wp_r0]
      exact GoM.thr h0
    | some b =>
      rw [hK] at hKM
      dsimp only at hKM ⊢
      obtain ⟨a1, a2, a3⟩ := hKM
      rw [a1, if_neg (by decide), wp_gR, sp_37_50 hs]
      refine ⟨so_37 hs, ?_⟩
      rw [wp_lI, ix_nI (by omega), sl_67 hs, inb_nI (by omega), a3]
      refine ⟨⟨so_67 hs, k2⟩, ?_⟩
      rw [wp_gI, ch]
      refine ⟨so_37 hs, ?_⟩
      by_cases e : b.2 = V.ch
      · rw [if_pos e, if_pos e]
        generalize hQ : GoM σ (1, sA V b.1 (0, V.U.2)).1 (1, sA V b.1 (0, V.U.2)).2 = Q
        refine wp_up 27 (fun i y τ => y = nI i ∧ Fr [38] [] [] (wI σ 37 11 0) τ ∧ ∀ j, j < i → hi τ 38 j = hi (wI σ 37 11 0) 65 (27 * k + j)) (fun ag i y τ hi' hJ hag => ?_) (fun ag y τ hJ => ?_) (by decide) ⟨rfl, Fr.refl, fun j hj => absurd hj (Nat.not_lt_zero _)⟩
        · obtain ⟨rfl, g, k1⟩ := hJ
          have hτ := g.sh hs rfl
          unfold f_X3_again_b40
          rw [n_27, if_neg (nI_ge hi' (by decide)), wp_gR, sp_37_0 hτ]
          refine ⟨so_37 hτ, ?_⟩
          rw [wp_gR, sp_37_48 hτ]
          refine ⟨so_37 hτ, ?_⟩
          rw [nI_mul, nI_add, wp_lI, ix_nI (by omega), sl_65 hτ, inb_nI (by omega), g.i (σ := wI σ 37 11 0) (a := 65) rfl]
          refine ⟨⟨so_65 hτ, by omega⟩, ?_⟩
          rw [wp_sI, ix_nI (by omega), sl_38 hτ, inb_nI (by omega), nI_1]
          refine ⟨⟨so_38 hτ, by omega⟩, hag _ _ ⟨rfl, g.putI rfl, fun j hj => ?_⟩⟩
          by_cases e : j = i
          · rw [e, hi_eq]
          · rw [hi_ni e]; exact k1 j (by omega)
        · obtain ⟨rfl, g, k1⟩ := hJ
          have hτ := g.sh hs rfl
          unfold f_X3_again_b40
          rw [n_27, if_pos (nI_le (Nat.le_refl _) (by decide)), wp_pI]
          refine ⟨so_37 hτ, rfl, ?_⟩
          rw [wp_r1, ← hQ]
          have g1 : Fr [38] [] [24] (wI σ 37 11 0) (wI τ 37 24 0) := (g.mono rfl).putI rfl
          have fs := g1.frs hs rfl
          have mh : MH (wI τ 37 24 0) 38 0 b.1 := MH.shift (σ := wI σ 37 11 0) (s := 65) (k' := 27 * k) (fun i hi' => by rw [Nat.zero_add, hi_ne (by decide)]; exact k1 i hi') a2
          have g0 : Fr [38] [] [11, 24] σ (wI τ 37 24 0) := (Fr.refl.putI (G := [11, 24]) (a := 37) (i := 11) (v := 0) rfl).trans (g1.mono rfl)
          refine ⟨rfl, ⟨⟨fs.sh hs rfl, x.2.1.frs fs rfl, x.pk, mh, hok b k2 hK⟩, s.frs fs rfl, t.frs fs rfl, ⟨hi_eq, fun j hj => absurd hj (Nat.not_lt_zero _), fun i hi' => ?_⟩, f.frs fs rfl, r.frs fs rfl, (fs.i (by decide) rfl).trans ch⟩, _, _, g0, rfl⟩
          have := u3 i hi'
          show KM _ i (V.K i)
          unfold KM at this ⊢
          cases hK' : V.K i with
          | none => rw [hK'] at this; dsimp only at this ⊢; rw [fs.i (by decide) rfl]; exact this
          | some b' =>
            rw [hK'] at this
            dsimp only at this ⊢
            rw [fs.i (a := 66) (by decide) rfl, fs.i (a := 67) (by decide) rfl]
            exact ⟨this.1, this.2.1.frs fs (by decide) (by decide) (by decide) rfl, this.2.2⟩
      · rw [if_neg e, if_neg e, wp_r0]
        exact GoM.thr h0
  · rw [if_neg c, if_neg c, wp_r0]
    exact GoM.thr h0
end keep
